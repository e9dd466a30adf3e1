/-! ===== WORK: steps in the class's cells ===== -/
set_option maxRecDepth 100000
theorem unrz {H G : gd_H} {ρ p o : Nat} (e : gI G ρ = gI (rz H ρ p o) ρ) : ∃ H', G = rz H' ρ p o ∧ gI H' ρ = gI H ρ ∧ (∀ b, b ≠ ρ → gI H' b = gI G b) ∧ gT H' = gT G ∧ gL H' = gL G ∧ gR H' = gR G ∧ gS H' = gS G ∧ gU H' = gU G := by
  refine ⟨wI G (fun b j => if b = ρ then gI H ρ j else gI G b j), ?_, ?_, fun b hb => ?_, rfl, rfl, rfl, rfl, rfl⟩
  · unfold rz
    rw [wI_wI, gI_wI]
    have : up1 (up1 (fun b j => if b = ρ then gI H ρ j else gI G b j) ρ 2 (Int32.ofNat p)) ρ 3 (Int32.ofNat o) = gI G := by
      funext b j
      simp only [up1]
      by_cases hb : b = ρ
      · subst hb
        have := congrFun e j
        rw [this]
        by_cases j3 : j = 3
        · subst j3; rw [rz_3]; simp
        · by_cases j2 : j = 2
          · subst j2; rw [rz_2]; simp
          · rw [rz_j _ _ _ _ j2 j3]; simp [j2, j3]
      · simp [hb]
    rw [this, wI_self]
  · funext j
    rw [gI_wI]
    simp
  · funext j
    rw [gI_wI]
    simp [hb]
/-- a step in the cells from lo on, below hi: what it does -/
def RWs (h : gd_H) (lo hi : Nat) (E : gdE) : Nat → Nat → (gdT → gdT) → Prop
  | 0, _, _ => False
  | n + 1, t, V => (lo ≤ t ∧ t < hi) ∧ ((gT h t = 19 ∧ ∃ k a, (k = 0 ∨ k = 4 ∨ k = 5) ∧ POK E k a 0 ∧ gI h t 0 = Int32.ofNat k ∧ gI h t 1 = Int32.ofNat a ∧ V = pOne E k a 0) ∨
      (gT h t = 20 ∧ ∃ k a b x y, POK E k a b ∧ ((k = 1 ∧ x = a ∧ y = b) ∨ (k = 2 ∧ x = 0 ∧ y = a) ∨ (k = 3 ∧ x = a ∧ y = b)) ∧ gI h t 0 = Int32.ofNat k ∧ gI h t 1 = Int32.ofNat x ∧ gI h t 2 = Int32.ofNat y ∧ V = pOne E k a b) ∨
      (gT h t = 21 ∧ V = pOne E 6 0 0) ∨
      (gT h t = 18 ∧ ∃ (tm m arr : Nat) (Vi : Nat → gdT → gdT), tm ≤ 30 ∧ m ≤ 40 ∧ gI h t 0 = Int32.ofNat tm ∧ gI h t 2 = Int32.ofNat m ∧ gR h t 1 = arr ∧ (lo ≤ arr ∧ arr < hi) ∧ gT h arr = 37 ∧ m ≤ gL h arr ∧ (∀ i, i < m → RWs h lo hi E n (gR h arr i) (Vi i)) ∧ V = pAg tm (fun s => fo (fun i s => gu (Vi i) s) m s)))
theorem RWs_cg {h h' : gd_H} {E : gdE} {lo hi lo' hi' : Nat} (h1 : lo' ≤ lo) (h2 : hi ≤ hi') (hc : ∀ b, lo ≤ b → b < hi → gT h' b = gT h b ∧ gL h' b = gL h b ∧ gI h' b = gI h b ∧ gR h' b = gR h b) : ∀ (n m t : Nat) (V : gdT → gdT), n ≤ m → RWs h lo hi E n t V → RWs h' lo' hi' E m t V
  | 0, m, t, V, _, hh => hh.elim
  | n + 1, m, t, V, hm, hh => by
    obtain ⟨m, rfl⟩ : ∃ e, m = e + 1 := ⟨m - 1, by omega⟩
    obtain ⟨⟨a1, a2⟩, hh⟩ := hh
    obtain ⟨c1, c0, c2, c3⟩ := hc t a1 a2
    refine ⟨⟨by omega, by omega⟩, ?_⟩
    rw [c1, c2, c3]
    rcases hh with hh | hh | hh | ⟨ht, tm, q, arr, Vi, b1, b2, b3, b4, b5, ⟨b6, b6'⟩, b7, b8, b9, b10⟩
    · exact Or.inl hh
    · exact Or.inr (Or.inl hh)
    · exact Or.inr (Or.inr (Or.inl hh))
    · obtain ⟨d1, d0, d2, d3⟩ := hc arr b6 b6'
      refine Or.inr (Or.inr (Or.inr ⟨ht, tm, q, arr, Vi, b1, b2, b3, b4, b5, ⟨by omega, by omega⟩, d1.trans b7, by rw [d0]; exact b8, fun i hi => ?_, b10⟩))
      rw [d3]
      exact RWs_cg h1 h2 hc n m _ _ (by omega) (b9 i hi)
theorem RWs.ty {h : gd_H} {lo hi : Nat} {E : gdE} {n t : Nat} {V : gdT → gdT} (w : RWs h lo hi E n t V) : gT h t ∈ ([18, 19, 20, 21] : List Nat) ∧ lo ≤ t ∧ t < hi := by
  cases n with
  | zero => exact w.elim
  | succ n =>
    obtain ⟨a, ⟨h1, -⟩ | ⟨h1, -⟩ | ⟨h1, -⟩ | ⟨h1, -⟩⟩ := w
    all_goals exact ⟨by rw [h1]; decide, a⟩
/-- a row with some steps laid in: all but the row and its array stand -/
theorem sp130 {G : gd_H} {r arr cap m s : Nat} (tr : gT G r = 18) (ra : gR G r 1 = arr) (ta : gT G arr = 37) (la : gL G arr = cap) (im : gI G r 2 = Int32.ofNat m) (hm : m ≤ cap) (hc8 : cap ≤ 1000) (h4 : 4 ≤ cap) (hm4 : m ≤ 39) (hr : r < gS G) (har : arr < gS G) (hne : r ≠ arr) (hk : ∀ i, i < m → gT G (gR G arr i) ∈ ([18, 19, 20, 21] : List Nat) ∧ gR G arr i < gS G) (hs : gT G s ∈ ([18, 19, 20, 21] : List Nat)) (hs2 : s < gS G) {d : Nat} (hd : 1 ≤ d) :
    ∃ G' arr', run gd_P0 d 130 [.ref r, .ref s] G = some (.inl none, G') ∧ (gS G ≤ gS G' ∧ gS G' ≤ gS G + 1 ∧ gU G' ≤ gU G + 78) ∧ (∀ b, b < gS G → gT G' b = gT G b ∧ gL G' b = gL G b ∧ (b ≠ r → gI G' b = gI G b) ∧ (b ≠ r → b ≠ arr → gR G' b = gR G b)) ∧ (∀ j, j ≠ 2 → gI G' r j = gI G r j) ∧ gI G' r 2 = Int32.ofNat (m + 1) ∧ gR G' r 1 = arr' ∧ (arr' = arr ∨ arr' = gS G) ∧ gT G' arr' = 37 ∧ (m + 1 ≤ gL G' arr' ∧ 4 ≤ gL G' arr' ∧ gL G' arr' ≤ 1000) ∧ arr' < gS G' ∧ (∀ i, i < m → gR G' arr' i = gR G arr i) ∧ gR G' arr' m = s := by
  obtain ⟨d, rfl⟩ : ∃ e, d = e + 1 := ⟨d - 1, by omega⟩
  -- the store
  have st : ∀ (K : gd_H) (A c : Nat) (w2 w3 : Value), gT K r = 18 → gR K r 1 = A → gT K A = 37 → gL K A = c → m < c → gI K r 2 = Int32.ofNat m → gT K s ∈ ([18, 19, 20, 21] : List Nat) → go gd_P0 d 130 52 [.ref r, .ref s, w2, w3] [] K = some (.inl none, wR (wI K (up1 (gI K) r 2 (Int32.ofNat (m + 1)))) (up1 (gR K) A m s)) := by
    intro K A c w2 w3 x1 x2 x3 x4 x5 x6 x7
    rw [s130_52, if_pos x1, if_pos x1, if_pos x1, x2, x6, if_pos ⟨x3, x7, by rw [x4, j_ix (by omega) x5]; exact trivial⟩, j_cl (by omega), j_s]
  have eq : (Int32.ofNat m = Int32.ofNat cap) = (m = cap) := j_eq (by omega) (by omega)
  rw [r130, s130_0, if_pos tr, if_pos tr, ra, if_pos ta, la, im]
  simp only [eq]
  by_cases c : m = cap
  · -- a longer array
    have m2 : (2 : Int32) * Int32.ofNat m = Int32.ofNat (2 * m) := j_mul 2 m
    have g2 : ¬ Int32.ofNat (2 * m) < 0 ∧ (Int32.ofNat (2 * m)).toNatClampNeg ≤ 65536 := ⟨by rw [j_neg (by omega)]; exact fun z => z, by rw [j_cl (by omega)]; omega⟩
    rw [if_pos c, if_pos tr, m2, if_pos g2, j_cl (by omega)]
    generalize eK : nw G 37 (2 * m) (2 * m) = K
    have KS : gS K = gS G + 1 := by rw [← eK]; rfl
    have KU : gU K = gU G + 2 * m := by rw [← eK]; rfl
    have KI : gI K r = gI G r := by rw [← eK]; funext j; rw [gI_nw, if_neg (by omega)]
    have Kb : ∀ b, b < gS G → gT K b = gT G b ∧ gL K b = gL G b ∧ gI K b = gI G b ∧ gR K b = gR G b := by
      intro b hb
      rw [← eK]
      exact ⟨by rw [gT_nw, if_neg (by omega)], by rw [gL_nw, if_neg (by omega)], by funext j; rw [gI_nw, if_neg (by omega)], by funext j; rw [gR_nw, if_neg (by omega)]⟩
    have Kn : gT K (gS G) = 37 ∧ gL K (gS G) = 2 * m := by rw [← eK]; exact ⟨by rw [gT_nw, if_pos rfl], by rw [gL_nw, if_pos rfl]⟩
    have A := lp_e (fun i R => go gd_P0 d 130 24 [.ref r, .ref s, .ref (gS G), .int (Int32.ofNat i)] [] (wR K R)) (fun i R => (∀ b, b ≠ gS G → R b = gR K b) ∧ ∀ j, j < i → R (gS G) j = gR G arr j) m (gR K) ⟨fun _ _ => rfl, fun j hj => absurd hj (Nat.not_lt_zero j)⟩ ?_
    · obtain ⟨R', e, r1, r2⟩ := A
      have e : go gd_P0 d 130 24 [.ref r, .ref s, .ref (gS G), .int 0] [] K = go gd_P0 d 130 24 [.ref r, .ref s, .ref (gS G), .int (Int32.ofNat m)] [] (wR K R') := e
      have tK : gT K r = 18 := (Kb r hr).1.trans tr
      have iK : gI K r 2 = Int32.ofNat m := by rw [KI]; exact im
      have E2 := st (wR K (up1 R' r 1 (gS G))) (gS G) (2 * m) (.ref (gS G)) (.int (Int32.ofNat m)) tK (by rw [gR_wR, up1_eq]) Kn.1 Kn.2 (by omega) iK (by
        have := (Kb s hs2).1
        show gT K s ∈ _
        rw [this]; exact hs)
      refine ⟨wR (wI (wR K (up1 R' r 1 (gS G))) (up1 (gI (wR K (up1 R' r 1 (gS G)))) r 2 (Int32.ofNat (m + 1)))) (up1 (gR (wR K (up1 R' r 1 (gS G)))) (gS G) m s), gS G, ?_, ⟨by show gS G ≤ gS K; omega, by show gS K ≤ _; omega, by show gU K ≤ _; omega⟩, fun b hb => ⟨(Kb b hb).1, (Kb b hb).2.1, fun z => ?_, fun z1 z2 => ?_⟩, fun j hj => ?_, ?_, ?_, Or.inr rfl, Kn.1, ⟨?_, ?_, ?_⟩, by show gS G < gS K; omega, fun i hi => ?_, ?_⟩
      · rw [e, s130_24, gT_wR, gI_wR, gR_wR, if_pos tK, iK, if_pos (Int32.le_refl _), if_pos tK]
        exact E2
      · show up1 (gI K) r 2 _ b = _
        rw [up1_nc _ _ _ z]; exact (Kb b hb).2.2.1
      · show up1 (up1 R' r 1 (gS G)) (gS G) m s b = _
        rw [up1_nc _ _ _ (by omega), up1_nc _ _ _ z1, r1 b (by omega)]; exact (Kb b hb).2.2.2
      · show up1 (gI K) r 2 _ r j = _
        rw [up1_nj _ _ hj, KI]
      · show up1 (gI K) r 2 _ r 2 = _
        rw [up1_eq]
      · show up1 (up1 R' r 1 (gS G)) (gS G) m s r 1 = _
        rw [up1_nc _ _ _ (by omega), up1_eq]
      · show m + 1 ≤ gL K (gS G); rw [Kn.2]; omega
      · show 4 ≤ gL K (gS G); rw [Kn.2]; omega
      · show gL K (gS G) ≤ 1000; rw [Kn.2]; omega
      · show up1 (up1 R' r 1 (gS G)) (gS G) m s (gS G) i = _
        rw [up1_nj _ _ (by omega), up1_nc _ _ _ (by omega)]; exact r2 i hi
      · show up1 (up1 R' r 1 (gS G)) (gS G) m s (gS G) m = _
        rw [up1_eq]
    · intro i hi R ⟨r1, r2⟩
      have tK : gT K r = 18 := (Kb r hr).1.trans tr
      have iK : gI K r 2 = Int32.ofNat m := by rw [KI]; exact im
      have rK : R r 1 = arr := by rw [r1 r (by omega), (Kb r hr).2.2.2]; exact ra
      have rA : R arr i = gR G arr i := by rw [r1 arr (by omega), (Kb arr har).2.2.2]
      obtain ⟨k1, k2⟩ := hk i hi
      have k3 : gT K (gR G arr i) ∈ ([18, 19, 20, 21] : List Nat) := by rw [(Kb _ k2).1]; exact k1
      refine ⟨up1 R (gS G) i (gR G arr i), ?_, fun b hb => by rw [up1_nc _ _ _ hb]; exact r1 b hb, fun j hj => ?_⟩
      · try dsimp only
        rw [s130_24, gT_wR, gI_wR, gR_wR, gL_wR, if_pos tK, iK, if_neg (by rw [j_le (by omega) (by omega)]; omega), if_pos tK, rK, if_pos ⟨(Kb arr har).1.trans ta, by rw [(Kb arr har).2.1, la, j_ix (by omega) (by omega)]; exact trivial⟩, j_cl (by omega), rA, if_pos ⟨Kn.1, k3, by rw [Kn.2, j_neg (by omega)]; exact fun z => z.elim id (fun z => by omega)⟩, j_s, wR_wR]
      · by_cases z : j = i
        · rw [z, up1_eq]
        · rw [up1_nj _ _ z]; exact r2 j (by omega)
  · rw [if_neg c]
    refine ⟨_, arr, st G arr cap _ _ tr ra ta la (by omega) im hs, ⟨Nat.le_refl _, by show gS G ≤ _; omega, by show gU G ≤ _; omega⟩, fun b hb => ⟨rfl, rfl, fun z => ?_, fun z1 z2 => ?_⟩, fun j hj => ?_, ?_, ?_, Or.inl rfl, ta, ⟨?_, ?_, ?_⟩, har, fun i hi => ?_, ?_⟩
    · show up1 (gI G) r 2 _ b = _
      rw [up1_nc _ _ _ z]
    · show up1 (gR G) arr m s b = _
      rw [up1_nc _ _ _ z2]
    · show up1 (gI G) r 2 _ r j = _
      rw [up1_nj _ _ hj]
    · show up1 (gI G) r 2 _ r 2 = _
      rw [up1_eq]
    · show up1 (gR G) arr m s r 1 = _
      rw [up1_nc _ _ _ hne]; exact ra
    · show m + 1 ≤ gL G arr; omega
    · show 4 ≤ gL G arr; omega
    · show gL G arr ≤ 1000; omega
    · show up1 (gR G) arr m s arr i = _
      rw [up1_nj _ _ (by omega)]
    · show up1 (gR G) arr m s arr m = _
      rw [up1_eq]
theorem sp128 {r : Nat} (hr : 4 ≤ r) (G : gd_H) {d : Nat} (hd : 1 ≤ d) : run gd_P0 d 128 [.ref r] G = some (.inl none, G) := by
  obtain ⟨d, rfl⟩ : ∃ e, d = e + 1 := ⟨d - 1, by omega⟩
  rw [r128, s128_0, if_pos hr, s128_4]
theorem sp129 {G : gd_H} {r : Nat} (tr : gT G r = 18) (hr : 4 ≤ r) (hr2 : r < gS G) (tm : Int32) {d : Nat} (hd : 2 ≤ d) : ∃ G', run gd_P0 d 129 [.ref r, .int tm] G = some (.inl none, G') ∧ (gS G' = gS G + 1 ∧ gU G' = gU G + 4) ∧ (∀ b, b < gS G → gT G' b = gT G b ∧ gL G' b = gL G b ∧ (b ≠ r → gI G' b = gI G b ∧ gR G' b = gR G b)) ∧ (∀ j, j ≠ 0 → gI G' r j = gI G r j) ∧ gI G' r 0 = tm ∧ gR G' r 1 = gS G ∧ gT G' (gS G) = 37 ∧ gL G' (gS G) = 4 := by
  obtain ⟨d, rfl⟩ : ∃ e, d = e + 1 := ⟨d - 1, by omega⟩
  have t : gT (nw G 37 4 4) r = 18 := by rw [gT_nw, if_neg (by omega)]; exact tr
  refine ⟨wR (wI (nw G 37 4 4) (up1 (gI (nw G 37 4 4)) r 0 tm)) (up1 (gR (nw G 37 4 4)) r 1 (gS G)), ?_, ⟨rfl, rfl⟩, fun b hb => ⟨?_, ?_, fun z => ⟨?_, ?_⟩⟩, fun j hj => ?_, ?_, ?_, ?_, ?_⟩
  · rw [r129, s129_0, if_pos tr, sp128 hr G (by omega), gc_n, s129_4, show Int32.toNatClampNeg 4 = 4 from rfl, if_pos t, if_pos t]
  · show gT (nw G 37 4 4) b = _; rw [gT_nw, if_neg (by omega)]
  · show gL (nw G 37 4 4) b = _; rw [gL_nw, if_neg (by omega)]
  · show up1 (gI (nw G 37 4 4)) r 0 tm b = _
    rw [up1_nc _ _ _ z]; funext j; rw [gI_nw, if_neg (by omega)]
  · show up1 (gR (nw G 37 4 4)) r 1 (gS G) b = _
    rw [up1_nc _ _ _ z]; funext j; rw [gR_nw, if_neg (by omega)]
  · show up1 (gI (nw G 37 4 4)) r 0 tm r j = _
    rw [up1_nj _ _ hj, gI_nw, if_neg (by omega)]
  · show up1 (gI (nw G 37 4 4)) r 0 tm r 0 = _
    rw [up1_eq]
  · show up1 (gR (nw G 37 4 4)) r 1 (gS G) r 1 = _
    rw [up1_eq]
  · show gT (nw G 37 4 4) (gS G) = _; rw [gT_nw, if_pos rfl]
  · show gL (nw G 37 4 4) (gS G) = _; rw [gL_nw, if_pos rfl]

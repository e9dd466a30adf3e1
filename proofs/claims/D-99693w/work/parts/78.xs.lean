/-! ===== THE CALL school: the class ===== -/
set_option maxRecDepth 100000
/-- a state's cell -/
def isS (b : Nat) : Prop := (∃ k, k < 17 ∧ b = 101 + 16 * k) ∨ (∃ i k, i < 3 ∧ k < 17 ∧ b = 376 + 274 * i + 16 * k) ∨ b = 1196
theorem SA.of {h h' : gd_H} {a : Nat} (hs : SA h a) (hT : ∀ b, b ≤ 1264 → gT h' b = gT h b ∧ gL h' b = gL h b) (hR : ∀ j, j ≠ 9 → gR h' a j = gR h a j) : SA h' a := by
  obtain ⟨⟨x0, x1⟩, hs⟩ := id hs
  have e := fun k (hk : k ≤ 8) => hT (a + k) (by omega)
  unfold SA
  rw [(hT a (by omega)).1, hR 8 (by omega), (hT 98 (by omega)).1, hR 0 (by omega), hR 1 (by omega), hR 2 (by omega), hR 3 (by omega), hR 4 (by omega), hR 5 (by omega), hR 6 (by omega), hR 7 (by omega), (e 1 (by omega)).1, (e 1 (by omega)).2, (e 2 (by omega)).1, (e 2 (by omega)).2, (e 3 (by omega)).1, (e 3 (by omega)).2, (e 4 (by omega)).1, (e 4 (by omega)).2, (e 5 (by omega)).1, (e 5 (by omega)).2, (e 6 (by omega)).1, (e 6 (by omega)).2, (e 7 (by omega)).1, (e 7 (by omega)).2, (e 8 (by omega)).1]
  exact ⟨⟨x0, x1⟩, hs⟩
theorem XG.al3 {h h' : gd_H} (hg : XG h) (hT : ∀ b, b ≤ 1264 → gT h' b = gT h b ∧ gL h' b = gL h b) (hR : ∀ b j, b ≤ 1264 → b ≠ 98 → (b = 96 → j ≠ 15) → ¬ (j = 9 ∧ isS b) → gR h' b j = gR h b j) : XG h' := by
  obtain ⟨g1, g2, g3, g4, g5, g6, g7, g8, g9, g10⟩ := hg
  have hb1 : ∀ e ∈ xgT, e.2.1 ≤ 1264 ∧ e.1 < 15 := by decide
  have hb2 : ∀ e ∈ xgL, e.1 ≤ 1264 := by decide
  have sa : ∀ {a : Nat}, isS a → SA h a → SA h' a := by
    intro a ia hs
    obtain ⟨⟨x0, x1⟩, hs⟩ := id hs
    have e := fun k (hk : k ≤ 8) => hT (a + k) (by omega)
    have r := fun j (hj : j ≠ 9) => hR a j (by omega) (by rcases ia with ⟨k, k1, k2⟩ | ⟨i, k, k0, k1, k2⟩ | k2 <;> omega) (by rcases ia with ⟨k, k1, k2⟩ | ⟨i, k, k0, k1, k2⟩ | k2 <;> omega) (fun z => hj z.1)
    unfold SA
    rw [(hT a (by omega)).1, r 8 (by omega), (hT 98 (by omega)).1, r 0 (by omega), r 1 (by omega), r 2 (by omega), r 3 (by omega), r 4 (by omega), r 5 (by omega), r 6 (by omega), r 7 (by omega), (e 1 (by omega)).1, (e 1 (by omega)).2, (e 2 (by omega)).1, (e 2 (by omega)).2, (e 3 (by omega)).1, (e 3 (by omega)).2, (e 4 (by omega)).1, (e 4 (by omega)).2, (e 5 (by omega)).1, (e 5 (by omega)).2, (e 6 (by omega)).1, (e 6 (by omega)).2, (e 7 (by omega)).1, (e 7 (by omega)).2, (e 8 (by omega)).1]
    exact ⟨⟨x0, x1⟩, hs⟩
  have ns : ∀ b, (b = 96 ∨ b = 99 ∨ b = 100 ∨ b = 373 ∨ b = 1212 ∨ ∃ i, i < 3 ∧ (b = 374 + 274 * i ∨ b = 375 + 274 * i)) → ¬ isS b := by
    intro b hb hs
    rcases hs with ⟨k, k1, k2⟩ | ⟨i', k, k0, k1, k2⟩ | k2
    · rcases hb with hb | hb | hb | hb | hb | ⟨i, i1, hb⟩ <;> omega
    · rcases hb with hb | hb | hb | hb | hb | ⟨i, i1, hb⟩ <;> omega
    · rcases hb with hb | hb | hb | hb | hb | ⟨i, i1, hb⟩ <;> omega
  refine ⟨(hT 96 (by omega)).1.trans g1, fun e he => ?_, fun e he => ?_, ?_, fun k hk => ?_, fun i hi => ?_, ?_, fun k hk => sa (Or.inl ⟨k, hk, rfl⟩) (g8 k hk), fun i hi k hk => sa (Or.inr (Or.inl ⟨i, k, hi, hk, rfl⟩)) (g9 i hi k hk), sa (Or.inr (Or.inr rfl)) g10⟩
  · rw [hR 96 e.1 (by omega) (by omega) (fun _ => by have := (hb1 e he).2; omega) (fun z => ns 96 (by omega) z.2), (hT e.2.1 (hb1 e he).1).1]; exact g2 e he
  · rw [(hT e.1 (hb2 e he)).2]; exact g3 e he
  · rw [hR 99 0 (by omega) (by omega) (by omega) (fun z => by omega), (hT 100 (by omega)).1, (hT 100 (by omega)).2]; exact g4
  · rw [hR 100 k (by omega) (by omega) (by omega) (fun z => ns 100 (by omega) z.2)]; exact g5 k hk
  · obtain ⟨x1, x2, x3, x4, x5, x6⟩ := g6 i hi
    exact ⟨by rw [hR 373 i (by omega) (by omega) (by omega) (fun z => by omega)]; exact x1, by rw [(hT (374 + 274 * i) (by omega)).1]; exact x2, by rw [hR (374 + 274 * i) 0 (by omega) (by omega) (by omega) (fun z => by omega)]; exact x3, by rw [(hT (375 + 274 * i) (by omega)).1]; exact x4, by rw [(hT (375 + 274 * i) (by omega)).2]; exact x5, fun k hk => by rw [hR (375 + 274 * i) k (by omega) (by omega) (by omega) (fun z => ns (375 + 274 * i) (Or.inr (Or.inr (Or.inr (Or.inr (Or.inr ⟨i, hi, Or.inr rfl⟩))))) z.2)]; exact x6 k hk⟩
  · rw [hR 1212 0 (by omega) (by omega) (by omega) (fun z => by omega), hR 1212 1 (by omega) (by omega) (by omega) (fun z => by omega), (hT 1213 (by omega)).1, (hT 1213 (by omega)).2, (hT 1214 (by omega)).1, (hT 1214 (by omega)).2]; exact g7
/-- the school's reader is made -/
theorem sp284 {H : gd_H} (hs : SK H) {ζ : Nat} (ht : gT H ζ = 9) (hS : gS H = ζ + 2) (hz : 1264 < ζ) (ρ : Nat) {d : Nat} (hd : 2 ≤ d) : ∃ H4, run gd_P0 d 284 [.ref ζ, .ref ρ] H = some (.inl none, H4) ∧ (gS H4 = ζ + 10 ∧ gU H4 = gU H + 57) ∧ (∀ b, b < ζ + 2 → gT H4 b = gT H b ∧ gL H4 b = gL H b ∧ gI H4 b = gI H b ∧ (b ≠ ζ → gR H4 b = gR H b)) ∧ (gR H4 ζ 0 = ζ + 2 ∧ gR H4 ζ 1 = ρ ∧ gR H4 ζ 2 = ζ + 3) ∧ (gT H4 (ζ + 2) = 38 ∧ gL H4 (ζ + 2) = 4 ∧ ∀ i, i < 4 → gR H4 (ζ + 2) i = 8 + 2 * (0 + i)) ∧ SC H4 (ζ + 3) ∧ (∀ j k, j ≤ 5 → gI H4 (ζ + 3 + j) k = 0) ∧ ∀ k, k < 12 → gI H4 (ζ + 9) k = 3 := by
  obtain ⟨d, rfl⟩ : ∃ e, d = e + 1 := ⟨d - 1, by omega⟩
  have zz : 96 ≤ gS H := by omega
  have g0 : gT (nw H 38 4 4) (gS H) = 38 ∧ ((gT (nw H 38 4 4) 8 = 23 ∧ 8 < 96) ∧ ¬ ((0 : Int32) < 0 ∨ gL (nw H 38 4 4) (gS H) ≤ Int32.toNatClampNeg (0 : Int32))) := wg hs zz 4 (j := 0) (i := 0) (by omega) (by omega) (by omega)
  have g1 : gT (nw H 38 4 4) (gS H) = 38 ∧ ((gT (nw H 38 4 4) 10 = 23 ∧ 10 < 96) ∧ ¬ ((1 : Int32) < 0 ∨ gL (nw H 38 4 4) (gS H) ≤ Int32.toNatClampNeg (1 : Int32))) := wg hs zz 4 (j := 1) (i := 1) (by omega) (by omega) (by omega)
  have g2 : gT (nw H 38 4 4) (gS H) = 38 ∧ ((gT (nw H 38 4 4) 12 = 23 ∧ 12 < 96) ∧ ¬ ((2 : Int32) < 0 ∨ gL (nw H 38 4 4) (gS H) ≤ Int32.toNatClampNeg (2 : Int32))) := wg hs zz 4 (j := 2) (i := 2) (by omega) (by omega) (by omega)
  have g3 : gT (nw H 38 4 4) (gS H) = 38 ∧ ((gT (nw H 38 4 4) 14 = 23 ∧ 14 < 96) ∧ ¬ ((3 : Int32) < 0 ∨ gL (nw H 38 4 4) (gS H) ≤ Int32.toNatClampNeg (3 : Int32))) := wg hs zz 4 (j := 3) (i := 3) (by omega) (by omega) (by omega)
  have gl : gT (nw H 38 4 4) ζ = 9 := by rw [gT_nw, if_neg (by omega)]; exact ht
  have n4 : Int32.toNatClampNeg 4 = 4 := rfl
  have m0 : Int32.toNatClampNeg (0 : Int32) = 0 := rfl
  have m1 : Int32.toNatClampNeg (1 : Int32) = 1 := rfl
  have m2 : Int32.toNatClampNeg (2 : Int32) = 2 := rfl
  have m3 : Int32.toNatClampNeg (3 : Int32) = 3 := rfl
  generalize eR : up1 (up1 (up1 (up1 (up1 (gR (nw H 38 4 4)) (gS H) 0 8) (gS H) 1 10) (gS H) 2 12) (gS H) 3 14) ζ 0 (gS H) = R1
  generalize eK : nw (wR (nw H 38 4 4) R1) 6 0 8 = K
  have SK1 : gS K = ζ + 4 := by rw [← eK]; show gS H + 1 + 1 = _; omega
  have SN : gS (nw H 38 4 4) = ζ + 3 := by rw [gS_nw]; omega
  have KT : gT K (ζ + 3) = 6 := by rw [← eK]; show (if ζ + 3 = gS (nw H 38 4 4) then 6 else _) = _; rw [if_pos SN.symm]
  have KIσ : ∀ k, gI K (ζ + 3) k = 0 := fun k => by rw [← eK]; show (if ζ + 3 = gS (nw H 38 4 4) then 0 else _) = _; rw [if_pos SN.symm]
  have Kb : ∀ b, b < ζ + 3 → gT K b = gT (nw H 38 4 4) b ∧ gL K b = gL (nw H 38 4 4) b ∧ gI K b = gI (nw H 38 4 4) b ∧ gR K b = R1 b := by
    intro b hb
    have z : b ≠ gS (nw H 38 4 4) := by omega
    rw [← eK]
    refine ⟨?_, ?_, ?_, ?_⟩
    · show (if b = gS (nw H 38 4 4) then 6 else _) = _; rw [if_neg z]; rfl
    · show (if b = gS (nw H 38 4 4) then 0 else _) = _; rw [if_neg z]; rfl
    · funext k; show (if b = gS (nw H 38 4 4) then 0 else _) = _; rw [if_neg z]; rfl
    · funext k; show (if b = gS (nw H 38 4 4) then 0 else _) = _; rw [if_neg z]; rfl
  obtain ⟨H3, e3, sc, ⟨S3, U3⟩, o3, z3, rn⟩ := sp171 (H := K) (σ := ζ + 3) KT (by omega) (by omega) (d := d) (by omega)
  have T3 : gT H3 ζ = 9 := by rw [(o3 ζ (by omega)).1, (Kb ζ (by omega)).1]; exact gl
  have R3 : gR H3 ζ = R1 ζ := by rw [(o3 ζ (by omega)).2.2.2 (by omega), (Kb ζ (by omega)).2.2.2]
  refine ⟨wR H3 (up1 (up1 (gR H3) ζ 2 (ζ + 3)) ζ 1 ρ), ?_, ⟨by show gS H3 = _; omega, ?_⟩, fun b hb => ?_, ⟨?_, ?_, ?_⟩, ⟨?_, ?_, fun i hi => ?_⟩, ?_, fun j k hj => ?_, fun k hk => rn k hk⟩
  · have tk : gT K (gS (nw H 38 4 4)) = 6 := by rw [SN]; exact KT
    rw [r284, s284_0, if_pos (by omega), s284_4, n4, if_pos g0, if_pos g1, if_pos g2, if_pos g3, if_pos gl, m0, m1, m2, m3, eR, eK, if_pos tk, SN, e3, gc_n, s284_40, if_pos T3, if_pos T3]
  · show gU H3 = _
    rw [U3, ← eK]
    show gU H + 4 + 8 + 45 = _
    omega
  · obtain ⟨x1, x2, x3, x4⟩ := o3 b (by omega)
    obtain ⟨y1, y2, y3, y4⟩ := Kb b (by omega)
    have z : b ≠ gS H := by omega
    refine ⟨by show gT H3 b = _; rw [x1, y1, gT_nw, if_neg z], by show gL H3 b = _; rw [x2, y2, gL_nw, if_neg z], by show gI H3 b = _; rw [x3, y3]; funext k; rw [gI_nw, if_neg z], fun bz => ?_⟩
    rw [gR_wR, up1_nc _ _ _ bz, up1_nc _ _ _ bz, x4 (by omega), y4, ← eR, up1_nc _ _ _ bz, up1_nc _ _ _ z, up1_nc _ _ _ z, up1_nc _ _ _ z, up1_nc _ _ _ z]
    funext k
    rw [gR_nw, if_neg z]
  · rw [gR_wR, up1_nj _ _ (by omega), up1_nj _ _ (by omega), R3, ← eR, up1_eq, hS]
  · rw [gR_wR, up1_eq]
  · rw [gR_wR, up1_nj _ _ (by omega), up1_eq]
  · show gT H3 (ζ + 2) = _
    rw [(o3 (ζ + 2) (by omega)).1, (Kb (ζ + 2) (by omega)).1, gT_nw, if_pos hS.symm]
  · show gL H3 (ζ + 2) = _
    rw [(o3 (ζ + 2) (by omega)).2.1, (Kb (ζ + 2) (by omega)).2.1, gL_nw, if_pos hS.symm]
  · rw [gR_wR, up1_nc _ _ _ (by omega), up1_nc _ _ _ (by omega), (o3 (ζ + 2) (by omega)).2.2.2 (by omega), (Kb (ζ + 2) (by omega)).2.2.2, ← eR, up1_nc _ _ _ (by omega), hS]
    have : i = 0 ∨ i = 1 ∨ i = 2 ∨ i = 3 := by omega
    rcases this with rfl | rfl | rfl | rfl
    all_goals simp [up1]
  · exact sc.cg (fun b h1 h2 => ⟨rfl, rfl⟩) (fun j => by rw [gR_wR, up1_nc _ _ _ (by omega), up1_nc _ _ _ (by omega)])
  · show gI H3 (ζ + 3 + j) k = 0
    by_cases j0 : j = 0
    · subst j0
      rw [Nat.add_zero, (o3 (ζ + 3) (by omega)).2.2.1]; exact KIσ k
    · exact z3 j k (by omega) hj
/-! the door of a school -/
def rSch (b : gdS) : gdR := fun j => if j < 7 then scH b j else if j < 14 then scF b (j - 7) else if j < 21 then -1 else if j < 28 then 0 else if j < 35 then -1 else if j < 42 then (if j - 35 < scN b then 1 else 0) else if j < 48 then scT b (j - 42) else 0
def dSch (D : gdD) (b : gdS) : gdD := ((scB b, scN b, scT b, scG b, scK b, scR b, fun f => 1 + f 0 / 3), fun _ => rSch b, 0, (0, dIw D, dIr D), (0, dTp D), -1, (0, fun _ => -1), 0, dR0 D, dR1 D)
theorem rS_h (b : gdS) {p : Nat} (hp : p < 7) : rSch b p = scH b p := if_pos hp
theorem rS_f (b : gdS) {p : Nat} (hp : p < 7) : rSch b (7 + p) = scF b p := by unfold rSch; rw [if_neg (by omega), if_pos (by omega), show 7 + p - 7 = p by omega]
theorem rS_o (b : gdS) {p : Nat} (hp : p < 7) : rSch b (14 + p) = -1 := by unfold rSch; rw [if_neg (by omega), if_neg (by omega), if_pos (by omega)]
theorem rS_a (b : gdS) {p : Nat} (hp : p < 7) : rSch b (21 + p) = 0 := by unfold rSch; rw [if_neg (by omega), if_neg (by omega), if_neg (by omega), if_pos (by omega)]
theorem rS_c (b : gdS) {p : Nat} (hp : p < 7) : rSch b (28 + p) = -1 := by unfold rSch; rw [if_neg (by omega), if_neg (by omega), if_neg (by omega), if_neg (by omega), if_pos (by omega)]
theorem rS_w (b : gdS) {p : Nat} (hp : p < 7) : rSch b (35 + p) = if p < scN b then 1 else 0 := by unfold rSch; rw [if_neg (by omega), if_neg (by omega), if_neg (by omega), if_neg (by omega), if_neg (by omega), if_pos (by omega), show 35 + p - 35 = p by omega]
theorem rS_t (b : gdS) {k : Nat} (hk : k < 6) : rSch b (42 + k) = scT b k := by unfold rSch; rw [if_neg (by omega), if_neg (by omega), if_neg (by omega), if_neg (by omega), if_neg (by omega), if_neg (by omega), if_pos (by omega), show 42 + k - 42 = k by omega]
theorem rS_8 (b : gdS) : rSch b 48 = 0 := rfl
theorem rS_9 (b : gdS) : rSch b 49 = 0 := rfl
theorem dSch_i (D : gdD) {b : gdS} (sg : SG b) : DI (dSch D b) := by
  obtain ⟨⟨hB, hN⟩, hT, hH, hR⟩ := sg
  have rj : RJ (dE (dSch D b)) (rSch b) := by
    refine ⟨0, by omega, ⟨hB, hN⟩, fun p hp => Or.inl (rS_o b hp), rS_9 b, fun p hp => ?_, fun p hp => ?_, fun k hk => ?_, fun k hk => ?_, fun p hp => ?_, ⟨0, by omega, rS_8 b⟩⟩
    · rw [rS_h b hp]
      by_cases z : p < scN b
      · obtain ⟨⟨n, ⟨n1, n2⟩, e⟩, -⟩ := (hH p).1 z
        exact ⟨n, by omega, e⟩
      · exact ⟨0, by omega, ((hH p).2 (by omega)).1⟩
    · have hp : p < scN b := hp
      rw [rS_h b (by omega)]
      obtain ⟨⟨n, ⟨n1, n2⟩, e⟩, -⟩ := (hH p).1 hp
      rw [e, show (1 : Int32) = Int32.ofNat 1 from rfl, j_le (by omega) (by omega)]
      exact n1
    · rw [rS_t b hk]
      by_cases z : k < scB b
      · obtain ⟨⟨n, ⟨n1, n2⟩, e⟩, -⟩ := (hT k).1 z
        exact ⟨n, by omega, e⟩
      · exact ⟨0, by omega, (hT k).2 (by omega)⟩
    · have hk : k < scB b := hk
      rw [rS_t b (by omega)]
      obtain ⟨⟨n, ⟨n1, n2⟩, e⟩, -⟩ := (hT k).1 hk
      rw [e, show (1 : Int32) = Int32.ofNat 1 from rfl, j_le (by omega) (by omega)]
      exact n1
    · rw [rS_w b hp]
      split
      · exact Or.inr rfl
      · exact Or.inl rfl
  refine ⟨⟨fun k hk => ?_, fun m hm => ?_, fun f g hfg => ?_⟩, fun k hk => rj, fun i hi => absurd hi (Nat.not_lt_zero i), fun j hj => absurd hj (Nat.not_lt_zero j)⟩
  · obtain ⟨-, ⟨n, ⟨n1, n2⟩, e⟩⟩ := (hT k).1 hk
    exact ⟨n, n2, e⟩
  · obtain ⟨n, ⟨n1, n2⟩, e⟩ := hR m
    exact ⟨n, n2, e⟩
  · show 1 + f 0 / 3 = 1 + g 0 / 3
    rw [hfg 0 (by omega)]
def SD (D : gdD) : gdQ gdS → Value × gdD
  | .inl (k, pl) => (.int (Int32.ofNat k - 10), dF0 D (Int32.ofNat pl))
  | .inr (_, b) => (.int (Int32.ofNat (scN b)), dSch D b)
theorem x52e {h H : gd_H} {D : gdD} {ζ c : Nat} {X : gdX} {b : gdS} (hi : XI h D) (s : SQ h H ζ X) (si : ScI (gI H) ζ c b) (sg : SG b) (p : Nat) {d : Nat} (hd : 3 ≤ d) : ∃ h', go gd_P0 d 52 26 [.ref 96, .null, .null] [.ref (ζ + 3), .ref 96] (rz H (ζ + 1) p 0) = some (.inl (some (.int (Int32.ofNat (scN b)))), h') ∧ XI h' (dSch D b) ∧ FX h h' := by
  obtain ⟨hg, -, -, -, -, -, -, -, ⟨rf0, rf1⟩, -, sz⟩ := id hi
  obtain ⟨⟨kxH, f16', f17'⟩, hbH, hSH, -, -, scH, -, SH, -⟩ := id s
  have hζ : gS h = ζ := s.2.2.2.2.2.2.1
  obtain ⟨⟨i6, i7, i3⟩, iT, iH, iR⟩ := si
  obtain ⟨⟨sB, sN⟩, sgT, sgH, sgR⟩ := sg
  obtain ⟨⟨z1, z2, z3⟩, kc, k96⟩ := kxH
  generalize eG : rz H (ζ + 1) p 0 = G
  have GT : gT G = gT H := by rw [← eG]; rfl
  have GL : gL G = gL H := by rw [← eG]; rfl
  have GR : gR G = gR H := by rw [← eG]; rfl
  have GS : gS G = gS H := by rw [← eG]; rfl
  have GU : gU G = gU H := by rw [← eG]; rfl
  have GI : ∀ q, q ≠ ζ + 1 → gI G q = gI H q := fun q hq => by rw [← eG]; exact rz_b _ _ _ _ hq
  clear eG
  have hR : ∀ q, q < ζ → gR H q = gR h q := fun q hq => (kc q (by omega)).2.2.1
  have hT : ∀ q, q < ζ → gT H q = gT h q ∧ gL H q = gL h q := fun q hq => ⟨(kc q (by omega)).1, (kc q (by omega)).2.1⟩
  have hI : ∀ q, q < ζ → q ≠ 96 → gI H q = gI h q := fun q hq z => (kc q (by omega)).2.2.2 z
  have T96G : gT G 96 = 1 := by rw [GT]; exact (hT 96 (by omega)).1.trans hg.1
  have R2G : up1 (gR G) 96 15 (ζ + 3) 96 2 = 99 := by rw [up1_nj _ _ (by omega), GR, hR 96 (by omega)]; exact x_r2 hg
  have T99G : gT G 99 = 3 := by rw [GT]; exact (hT 99 (by omega)).1.trans (x_t2 hg)
  generalize eK : wR (wI G (up1 (gI G) 99 1 0)) (up1 (gR G) 96 15 (ζ + 3)) = K
  have KT : gT K = gT H := by rw [← eK]; exact GT
  have KL : gL K = gL H := by rw [← eK]; exact GL
  have KS : gS K = gS H := by rw [← eK]; exact GS
  have KU : gU K = gU H := by rw [← eK]; exact GU
  have KI : ∀ q, q ≠ 99 → q ≠ ζ + 1 → gI K q = gI H q := fun q q1 q2 => by rw [← eK, gI_wR, gI_wI, up1_nc _ _ _ q1]; exact GI q q2
  have KI99 : gI K 99 1 = 0 := by rw [← eK, gI_wR, gI_wI, up1_eq]
  have KR : ∀ q, q ≠ 96 → gR K q = gR H q := fun q hq => by rw [← eK, gR_wR, up1_nc _ _ _ hq, GR]
  have KR96 : ∀ j, j ≠ 15 → gR K 96 j = gR H 96 j := fun j hj => by rw [← eK, gR_wR, up1_nj _ _ hj, GR]
  have KR15 : gR K 96 15 = ζ + 3 := by rw [← eK, gR_wR, up1_eq]
  obtain ⟨a1, a2, a3⟩ := hg.2.2.2.1
  have e145 : run gd_P0 d 145 [.ref 99] K = some (.inl (some (.ref 101)), K) := by
    obtain ⟨d, rfl⟩ : ∃ e, d = e + 1 := ⟨d - 1, by omega⟩
    have q1 : gR K 99 0 = 100 := by rw [KR 99 (by omega), hR 99 (by omega)]; exact a1
    have q2 : gT K 100 = 35 := by rw [KT, (hT 100 (by omega)).1]; exact a2
    have q3 : gL K 100 = 17 := by rw [KL, (hT 100 (by omega)).2]; exact a3
    have q4 : gR K 100 0 = 101 := by rw [KR 100 (by omega), hR 100 (by omega)]; exact hg.2.2.2.2.1 0 (by omega)
    have q5 : gT K 99 = 3 := by rw [KT, (hT 99 (by omega)).1]; exact x_t2 hg
    rw [r145, s145_0, if_pos q5, if_pos q5, q1, KI99, q3, if_pos ⟨q2, by decide⟩, show Int32.toNatClampNeg 0 = 0 from rfl, q4]
  have saK : SA K 101 := (hg.2.2.2.2.2.2.2.1 0 (by omega)).of (fun q hq => ⟨by rw [KT]; exact (hT q (by omega)).1, by rw [KL]; exact (hT q (by omega)).2⟩) (fun j _ => by rw [KR _ (by omega), hR _ (by omega)])
  have scK' : SC K (ζ + 3) := scH.cg (fun q _ _ => ⟨by rw [KT], by rw [KL]⟩) (fun j => by rw [KR _ (by omega)])
  obtain ⟨I', e148, ⟨j10, j11, j12, j13⟩, jT, jH, jo⟩ := sp148 saK scK' (d := d) (by omega)
  have K96T : gT K 96 = 1 := by rw [KT]; exact (hT 96 (by omega)).1.trans hg.1
  have K101T : gT K 101 = 4 := saK.2.1.1
  have KR1 : gR K 96 1 = 98 := by rw [KR96 1 (by omega), hR 96 (by omega)]; exact x_r1 hg
  have T98 : gT K 98 = 2 := by rw [KT, (hT 98 (by omega)).1]; exact x_t1 hg
  have I96 : I' 96 = gI K 96 := jo 96 (by omega)
  have Iσ : ∀ j, j ≤ 6 → I' (ζ + 3 + j) = gI H (ζ + 3 + j) := fun j hj => (jo _ (by omega)).trans (KI _ (by omega) (by omega))
  -- the end
  have Tσ : gT K (ζ + 3) = 6 := scK'.2.1
  generalize eF : wR (wI K (up1 (up1 (up1 I' 96 18 0) 96 19 0) 96 20 0)) (up1 (up1 (gR K) 101 9 (ζ + 3)) 98 0 0) = F
  have FT : gT F = gT H := by rw [← eF]; exact KT
  have FL : gL F = gL H := by rw [← eF]; exact KL
  have FS : gS F = gS H := by rw [← eF]; exact KS
  have FU : gU F = gU H := by rw [← eF]; exact KU
  have FI : ∀ q, q ≠ 96 → gI F q = I' q := fun q hq => by rw [← eF, gI_wR, gI_wI, up1_nc _ _ _ hq, up1_nc _ _ _ hq, up1_nc _ _ _ hq]
  have FI96 : ∀ j, j ≠ 18 → j ≠ 19 → j ≠ 20 → gI F 96 j = I' 96 j := fun j h1 h2 h3 => by rw [← eF, gI_wR, gI_wI, up1_nj _ _ h3, up1_nj _ _ h2, up1_nj _ _ h1]
  have F18 : gI F 96 18 = 0 ∧ gI F 96 19 = 0 ∧ gI F 96 20 = 0 := by rw [← eF, gI_wR, gI_wI]; simp [up1]
  have FR : ∀ q j, q ≠ 98 → (q = 101 → j ≠ 9) → gR F q j = gR K q j := fun q j h1 h2 => by
    rw [← eF, gR_wR, up1_nc _ _ _ h1]
    by_cases z : q = 101
    · rw [z, up1_nj _ _ (h2 z)]
    · rw [up1_nc _ _ _ z]
  have F989 : gR F 98 0 = 0 ∧ gR F 101 9 = ζ + 3 := by rw [← eF, gR_wR]; simp [up1]
  have FR15 : gR F 96 15 = ζ + 3 := (FR 96 15 (by omega) (by omega)).trans KR15
  have FRσ : ∀ j, gR F (ζ + 3) j = gR H (ζ + 3) j := fun j => (FR _ j (by omega) (by omega)).trans (by rw [KR _ (by omega)])
  have FIs : ∀ q, q < ζ → q ≠ 96 → q ≠ 99 → (q < 101 ∨ 107 < q) → gI F q = gI h q := fun q h1 h2 h3 h4 => (FI q h2).trans ((jo q (by omega)).trans ((KI q h3 (by omega)).trans (hI q h1 h2)))
  have FIσ : ∀ j, j ≤ 6 → gI F (ζ + 3 + j) = gI H (ζ + 3 + j) := fun j hj => (FI _ (by omega)).trans (Iσ j hj)
  refine ⟨F, ?_, ⟨?_, ⟨ζ + 3, ⟨FR15, by omega, by rw [FS]; omega⟩, ?_, fun k hk => ?_, fun k hk => ?_, fun i hi => absurd hi (Nat.not_lt_zero i)⟩, ⟨?_, Nat.zero_le _⟩, ⟨F18.2.2, Nat.zero_le _, fun i hi => absurd hi (Nat.not_lt_zero i)⟩, ⟨?_, Nat.zero_le _, fun j hj => absurd hj (Nat.not_lt_zero j)⟩, ?_, ⟨F18.1, Nat.zero_le _, fun k hk => absurd hk (Nat.not_lt_zero k), fun m _ _ m3 => absurd rfl m3⟩, F18.2.1, ⟨?_, ?_⟩, ⟨?_, Or.inl ⟨F989.1, rfl⟩⟩, by rw [FS]; omega⟩, ⟨by rw [FS]; omega, by rw [FS]; omega, by rw [FU]; omega⟩, fun q hq => ⟨?_, ?_, ?_, ?_⟩⟩
  · rw [s52_26, if_pos T96G, if_pos T96G, R2G, if_pos T99G, if_pos T96G, if_pos T99G, eK, e145, gc_v, s52_54, if_pos K96T, if_pos K101T, KR15, e148, gc_n, s52_61, gT_wR, gT_wI, if_pos K96T, gR_wR, up1_nc (b := 96) _ _ _ (by omega), KR1, if_pos T98, if_pos K96T, if_pos K96T, if_pos K96T, if_pos K96T, up1_nc (b := 96) _ _ _ (by omega), up1_nc (b := 96) _ _ _ (by omega), KR15, if_pos Tσ, gI_wR, gI_wI, up1_nc (b := ζ + 3) _ _ _ (by omega), up1_nc (b := ζ + 3) _ _ _ (by omega), up1_nc (b := ζ + 3) _ _ _ (by omega), (Iσ 0 (by omega) : I' (ζ + 3) = gI H (ζ + 3)), i7, ← eF]
    rfl
  · refine hg.al3 (fun q hq => ⟨by rw [FT]; exact (hT q (by omega)).1, by rw [FL]; exact (hT q (by omega)).2⟩) (fun q j q1 q2 q3 q4 => ?_)
    rw [FR q j q2 (fun z w => q4 ⟨w, Or.inl ⟨0, by omega, by omega⟩⟩)]
    by_cases z : q = 96
    · subst z; rw [KR96 j (q3 rfl), hR _ (by omega)]
    · rw [KR q z, hR q (by omega)]
  · exact scH.cg (fun q _ _ => ⟨by rw [FT], by rw [FL]⟩) FRσ
  · have hk : k < scB b := hk
    rw [show ζ + 3 + 1 = ζ + 3 + 1 from rfl, FIσ 1 (by omega)]
    exact (iT k (by omega)).1
  · have hk : k ≤ 0 := hk
    have : k = 0 := by omega
    subst this
    refine ⟨F989.2, ⟨sB, sN⟩, ⟨?_, ?_⟩, fun k hk => ?_, fun p hp => ?_, fun m hm => ?_, fun p hp => ?_, fun p hp => ?_, fun p hp => ?_, fun p hp => ?_, fun p hp => ?_, fun p hp => ?_, fun k hk => ?_, ?_, ?_, ?_⟩
    · rw [(FIσ 0 (by omega) : gI F (ζ + 3) = gI H (ζ + 3))]; exact i6
    · rw [(FIσ 0 (by omega) : gI F (ζ + 3) = gI H (ζ + 3))]; exact i7
    · have hk : k < scB b := hk
      rw [FIσ 2 (by omega)]; exact (iT k (by omega)).2
    · rw [FIσ 5 (by omega)]; exact (iH p hp).2.2
    · rw [FIσ 6 (by omega)]; exact iR m hm
    · rw [FI _ (by omega)]
      refine (jH p hp).1.trans ?_
      rw [KI _ (by omega) (by omega)]
      exact ((iH p hp).1).trans (rS_h b hp).symm
    · rw [FI _ (by omega)]
      refine (jH p hp).2.1.trans ?_
      rw [KI _ (by omega) (by omega)]
      exact ((iH p hp).2.1).trans (rS_f b hp).symm
    · rw [FI _ (by omega)]; exact (jH p hp).2.2.1.trans (rS_o b hp).symm
    · rw [FI _ (by omega)]; exact (jH p hp).2.2.2.1.trans (rS_a b hp).symm
    · rw [FI _ (by omega)]; exact (jH p hp).2.2.2.2.trans (rS_c b hp).symm
    · have hp : p < scN b := hp
      rw [FI _ (by omega), show I' (101 + 16 * 0) 12 = 0 from j12, b_0]
      exact (rS_w b (by omega)).trans (if_pos hp)
    · rw [FI _ (by omega)]
      refine (jT k hk).trans ?_
      rw [KI _ (by omega) (by omega)]
      exact ((iT k hk).1).trans (rS_t b hk).symm
    · rw [FI _ (by omega)]; exact j11
    · rw [FI _ (by omega)]; exact j10
    · rw [FI _ (by omega)]; exact j13
  · rw [FI 99 (by omega), jo 99 (by omega)]; exact KI99
  · rw [FI96 16 (by omega) (by omega) (by omega), I96, KI 96 (by omega) (by omega)]; exact f16'
  · rw [FI96 17 (by omega) (by omega) (by omega), I96, KI 96 (by omega) (by omega)]; exact f17'
  · rw [FIs 1216 (by omega) (by omega) (by omega) (by omega)]; exact rf0
  · rw [FIs 1216 (by omega) (by omega) (by omega) (by omega)]; exact rf1
  · rw [FT, (hT 98 (by omega)).1]; exact x_t1 hg
  · rw [FT, (hT q (by omega)).1]
  · rw [FL, (hT q (by omega)).2]
  · exact FIs q (by omega) (by omega) (by omega) (by omega)
  · funext j
    rw [FR q j (by omega) (by omega), KR q (by omega), hR q (by omega)]
theorem x52 {D : gdD} {n : Nat} (hn : n ≤ dFed D) : XDo 52 [.int (Int32.ofNat n)] D (SD D (sSch (txt D n))).1 (SD D (sSch (txt D n))).2 := by
  intro d h hd hi hD hS
  obtain ⟨d, rfl⟩ : ∃ e, d = e + 1 := ⟨d - 1, by omega⟩
  obtain ⟨hg, -, -, -, ⟨t1, t2, t3⟩, -, -, -, ⟨rf0, rf1⟩, -, sz⟩ := id hi
  have T96 : gT h 96 = 1 := hg.1
  have kn := Ke.nw h 9 0 4 (by omega)
  obtain ⟨h2, e54, kx, S2, ⟨f16, f17⟩, hb, oT⟩ := sp54 hi hD kn hn (d := d) (by omega)
  rw [gS_nw] at S2 hb oT e54
  have tl : gT h2 (gS h) = 9 := by rw [(oT (gS h) (by omega)).1, gT_nw, if_pos rfl]
  have hS2 : SK h2 := hS.cg fun b hb => by
    obtain ⟨x1, x2, x3, x4⟩ := kx.2.1 b (by omega)
    exact ⟨x1, x2, x4 (by omega)⟩
  obtain ⟨H4, e284, ⟨S4, U4⟩, o4, ⟨r0, r1, r2⟩, wA, sc4, z4, rn4⟩ := sp284 (H := rz h2 (gS h + 1) 0 0) (hS2.rz (by omega) 0 0) (ζ := gS h) tl (by rw [gS_rz]; omega) (by omega) (gS h + 1) (d := d) (by omega)
  generalize hζ : gS h = ζ at *
  have o4I : ∀ b, b < ζ + 2 → b ≠ ζ + 1 → gI H4 b = gI h2 b := fun b h1 h3 => (o4 b h1).2.2.1.trans (rz_b _ _ _ _ h3)
  have i4 : gI H4 (ζ + 1) = gI (rz h2 (ζ + 1) 0 0) (ζ + 1) := (o4 (ζ + 1) (by omega)).2.2.1
  have eH4 : rz H4 (ζ + 1) 0 0 = H4 := rz_self (by rw [i4]; exact rz_2 _ _ _ _) (by rw [i4]; exact rz_3 _ _ _ _)
  have kx4 : Kx 20 h H4 := by
    refine ⟨⟨by omega, by omega, ?_⟩, fun b hb => ?_, fun j j1 j2 => ?_⟩
    · have := kx.1.2.2
      rw [U4, gU_rz]
      omega
    · obtain ⟨x1, x2, x3, x4⟩ := kx.2.1 b hb
      obtain ⟨y1, y2, y3, y4⟩ := o4 b (by omega)
      exact ⟨y1.trans x1, y2.trans x2, (y4 (by omega)).trans x3, fun z => (o4I b (by omega) (by omega)).trans (x4 z)⟩
    · rw [o4I 96 (by omega) (by omega)]; exact kx.2.2 j j1 j2
  have s4 : SQ h H4 ζ (txt D n) := by
    refine ⟨⟨kx4, by rw [o4I 96 (by omega) (by omega)]; exact ⟨f16, f17⟩⟩, ?_, hS2.cg fun b hb => ?_, ⟨(o4 ζ (by omega)).1.trans tl, r0, r1, r2⟩, wA, sc4, hζ, S4, by omega⟩
    · obtain ⟨⟨b1, b2, b3, b4⟩, b5, b6, ⟨b7, b8⟩, b9⟩ := hb
      obtain ⟨y1, y2, y3, y4⟩ := o4 (ζ + 1) (by omega)
      obtain ⟨z1, z2, z3, z4⟩ := o4 97 (by omega)
      refine ⟨⟨y1.trans b1, by rw [y4 (by omega)]; exact b2, z1.trans b3, z2.trans b4⟩, ?_, fun j hj => ?_, ⟨by omega, by omega⟩, b9⟩
      · rw [i4, rz_j _ _ _ _ (by omega) (by omega)]; exact b5
      · rw [o4I 97 (by omega) (by omega)]; exact b6 j hj
    · obtain ⟨x1, x2, x3, x4⟩ := o4 b (by omega)
      exact ⟨x1, x2, o4I b (by omega) (by omega)⟩
  have si4 : ScI (gI H4) ζ 0 s0 := by
    refine ⟨⟨z4 0 6 (by omega), z4 0 7 (by omega), ?_⟩, fun k hk => ⟨z4 1 k (by omega), z4 2 k (by omega)⟩, fun p hp => ⟨z4 3 p (by omega), z4 4 p (by omega), z4 5 p (by omega)⟩, fun m hm => rn4 m hm⟩
    rw [o4I ζ (by omega) (by omega), (oT ζ (by omega)).2.2.2 (by omega), gI_nw, if_pos hζ.symm]
    rfl
  obtain ⟨d, rfl⟩ : ∃ e, d = e + 1 := ⟨d - 1, by omega⟩
  have out := lp285 (h := h) (d := d) (by omega) (n + 1) 0 0 s0 H4 (by show n < _; omega) (Nat.zero_le _) s4 si4 s0_g (by omega)
  rw [eH4, ← r285] at out
  have E : run gd_P0 (d + 1 + 1) 52 [.ref 96, .int (Int32.ofNat n)] h = gc gd_P0 (d + 1) 52 23 26 [.ref 96, .null, .null] [.ref 96] (run gd_P0 (d + 1) 285 [.ref ζ] H4) := by
    have e53 := sp53 hg (d := d + 1) (by omega) (v := Int32.ofNat n) (lo := 0) (hi := gI h 96 16) (by rw [j_neg (by omega)]; exact fun z => z) (by rw [t1, j_lt (by omega) (by omega)]; omega)
    have tn : gT (nw h 9 0 4) 96 = 1 := by rw [gT_nw, if_neg (by omega)]; exact T96
    have tz : gT (rz h2 (ζ + 1) 0 0) ζ = 9 := tl
    have tz3 : gT H4 ζ = 9 := (o4 ζ (by omega)).1.trans tl
    rw [r52, s52_0, if_pos T96, if_pos T96, e53, gc_n, s52_10, if_pos tn, hζ, e54, gc_v, s52_20, if_pos tz, e284, gc_n, s52_23, if_pos tz3]
  rw [E]
  show ∃ h', gc gd_P0 (d + 1) 52 23 26 [.ref 96, .null, .null] [.ref 96] (run gd_P0 (d + 1) 285 [.ref ζ] H4) = some (.inl (some (SD D (sLp (txt D n) (n + 1) 0 0 s0)).1), h') ∧ XI h' (SD D (sLp (txt D n) (n + 1) 0 0 s0)).2 ∧ FX h h'
  obtain ⟨out1, out2⟩ := out
  revert out1 out2
  rcases sLp (txt D n) (n + 1) 0 0 s0 with ⟨k, pl⟩ | ⟨p, b⟩
  · intro out1 _
    obtain ⟨H, ρ, a, h4, e, ⟨kxH, f0⟩, w, hρ⟩ := out1 k pl rfl
    obtain ⟨kx4', e96⟩ := kxH.kr w.2 (by omega) hρ (Nat.le_refl _)
    obtain ⟨h5, e5, x5, f5, t5⟩ := flt hi kx4' (by omega) (by rw [e96]; exact f0) w.1.2.1 w.1.2.2.1 w.1.2.2.2 (d := d + 1) (by omega)
    have t96 : gT h4 96 = 1 := (kx4'.2.1 96 (by omega)).1.trans T96
    refine ⟨h5, ?_, x5, f5⟩
    rw [e, gc_x, gx_c (hp := 32) (e := by rw [w.1.2.1]; rfl), s52_32, if_pos t96, e5, gc_v, s52_38]
    rfl
  · intro _ out2
    obtain ⟨H, c', e, s, si, sg⟩ := out2 p b rfl
    obtain ⟨h5, e5, x5, f5⟩ := x52e hi s si sg p (d := d + 1) (by omega)
    refine ⟨h5, ?_, x5, f5⟩
    rw [e, gc_v, e5]
    rfl
theorem x52n {D : gdD} {v : Int32} (hf : dFed D ≤ 600) (hv : v < 0 ∨ Int32.ofNat (dFed D) < v) : XNo 52 [.int v] D 25 := by
  intro d h hd hi hD
  obtain ⟨d, rfl⟩ : ∃ e, d = e + 1 := ⟨d - 1, by omega⟩
  obtain ⟨hg, -, -, -, ⟨t1, t2, t3⟩, -, -, -, -, -, sz⟩ := id hi
  rw [r52, s52_0, if_pos hg.1, if_pos hg.1, t1, sp53n hg (by omega) (by omega) hv, gc_x]
  exact gx_n (k := 52) (pc := 7) (t := 25) rfl

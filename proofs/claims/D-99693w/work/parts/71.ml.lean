/-! ===== THE MODEL's LAW, READ ===== -/
set_option maxRecDepth 100000
theorem j_dc (n : Nat) : Int32.ofNat (n + 1) - 1 = Int32.ofNat n := j_sub (m := n + 1) (n := 1) (by omega)
/-- codes are laid behind the c-th -/
def CW (c : Nat) (cs : List (Nat × Nat)) (h h' : gd_H) : Prop := ∃ I', h' = wI h I' ∧ (∀ b, b ≠ 1242 → b ≠ 1243 → b ≠ 1231 → I' b = gI h b) ∧ (∀ j, j ≠ 27 → I' 1231 j = gI h 1231 j) ∧ I' 1231 27 = Int32.ofNat (c + cs.length) ∧ (∀ i, i < c → I' 1242 i = gI h 1242 i ∧ I' 1243 i = gI h 1243 i) ∧ ∀ i, i < cs.length → I' 1242 (c + i) = Int32.ofNat (cs.getD i (0, 0)).1 ∧ I' 1243 (c + i) = Int32.ofNat (cs.getD i (0, 0)).2
theorem CW.refl {c : Nat} {h : gd_H} (hc : gI h 1231 27 = Int32.ofNat c) : CW c [] h h := ⟨gI h, (wI_self h).symm, fun _ _ _ _ => rfl, fun _ _ => rfl, hc, fun _ _ => ⟨rfl, rfl⟩, fun i hi => absurd hi (Nat.not_lt_zero i)⟩
theorem CW.trans {c : Nat} {a b : List (Nat × Nat)} {h1 h2 h3 : gd_H} (x : CW c a h1 h2) (y : CW (c + a.length) b h2 h3) : CW c (a ++ b) h1 h3 := by
  obtain ⟨I1, rfl, x1, x2, x3, x4, x5⟩ := x
  obtain ⟨I2, rfl, y1, y2, y3, y4, y5⟩ := y
  refine ⟨I2, wI_wI _ _ _, fun q h1 h2 h3 => (y1 q h1 h2 h3).trans (x1 q h1 h2 h3), fun j hj => (y2 j hj).trans (x2 j hj), ?_, fun i hi => ?_, fun i hi => ?_⟩
  · rw [y3, List.length_append, Nat.add_assoc]
  · obtain ⟨p1, p2⟩ := y4 i (by omega)
    obtain ⟨q1, q2⟩ := x4 i hi
    exact ⟨p1.trans q1, p2.trans q2⟩
  · by_cases z : i < a.length
    · obtain ⟨p1, p2⟩ := y4 (c + i) (by omega)
      obtain ⟨q1, q2⟩ := x5 i z
      have e : (a ++ b).getD i (0, 0) = a.getD i (0, 0) := by rw [List.getD_eq_getElem?_getD, List.getD_eq_getElem?_getD, List.getElem?_append_left z]
      rw [e]
      exact ⟨p1.trans q1, p2.trans q2⟩
    · rw [List.length_append] at hi
      have e : (a ++ b).getD i (0, 0) = b.getD (i - a.length) (0, 0) := by rw [List.getD_eq_getElem?_getD, List.getD_eq_getElem?_getD, List.getElem?_append_right (by omega)]
      have := y5 (i - a.length) (by omega)
      rw [show c + a.length + (i - a.length) = c + i by omega] at this
      rw [e]
      exact this
theorem MB.cw {h h' : gd_H} {X : gdX} {c : Nat} {cs : List (Nat × Nat)} (hb : MB h X) (w : CW c cs h h') : MB h' X := by
  obtain ⟨I', rfl, x1, x2, -⟩ := w
  obtain ⟨hm, ⟨h3, h5⟩, hB, hX⟩ := hb
  exact ⟨hm, ⟨(x2 3 (by omega)).trans h3, (x2 5 (by omega)).trans h5⟩, fun j hj => by show I' 1233 j = _; rw [x1 1233 (by omega) (by omega) (by omega)]; exact hB j hj, hX⟩
theorem CW.mz {h h' : gd_H} {c : Nat} {cs : List (Nat × Nat)} (w : CW c cs h h') : MZ h h' := by
  obtain ⟨I', rfl, x1, x2, -⟩ := w
  exact ⟨I', gJ h, rfl, fun b hb => x1 b (by unfold mper at hb; omega) (by unfold mper at hb; omega) (by unfold mper at hb; omega), fun j hj => x2 j (fun z => by rw [z] at hj; exact absurd hj (by decide)), fun _ _ => rfl⟩
theorem CW.z0 {h h' : gd_H} {c : Nat} {cs : List (Nat × Nat)} (w : CW c cs h h') : MZ0 h h' := by
  refine ⟨w.mz, ?_⟩
  obtain ⟨I', rfl, x1, x2, -⟩ := w
  exact x2 0 (by omega)
theorem CW.c {h h' : gd_H} {c : Nat} {cs : List (Nat × Nat)} (w : CW c cs h h') : gI h' 1231 27 = Int32.ofNat (c + cs.length) := by
  obtain ⟨I', rfl, x1, x2, x3, -⟩ := w
  exact x3
/-- how a reading of a law's part ends -/
def KO (h : gd_H) (o c : Nat) : gdQ gdK → Option gd_O → Prop
  | .inl (k, pl), out => ∃ h', out = some (.inl none, h') ∧ ME h k pl h'
  | .inr (p', a), out => ∃ h', out = some (.inl none, mm h' p' o) ∧ CW c a.1 h h'
def KVs (X : gdX) (o : Nat) (u : Nat → gdQ gdK) (k dm : Nat) : Prop := ∀ (d : Nat) (h : gd_H) (p c : Nat), dm ≤ d → MB h X → SK h → gI h 1231 27 = Int32.ofNat c → p ≤ xn X → c ≤ p → KO h o c (u p) (run gd_P0 d k [.ref 1231] (mm h p o))
theorem b205 {h : gd_H} (hb : BS h) {d : Nat} (hd : 2 ≤ d) (k w : Int32) : run gd_P0 d 205 [.ref 1231, .int k, .int w] h = some (.inl none, h) := by
  obtain ⟨d, rfl⟩ : ∃ e, d = e + 1 := ⟨d - 1, by omega⟩
  rw [r205, s205_0, if_pos hb.1.t, b185 hb (by omega), gc_v, s205_4, if_pos rfl]
theorem b203 {h : gd_H} (hb : BS h) {d : Nat} (hd : 2 ≤ d) : run gd_P0 d 203 [.ref 1231] h = some (.inl none, h) := by
  obtain ⟨d, rfl⟩ : ∃ e, d = e + 1 := ⟨d - 1, by omega⟩
  rw [r203, s203_0, if_pos hb.1.t, b185 hb (by omega), gc_v, s203_4, if_pos rfl]
theorem l202 {h : gd_H} (hb : BS h) {d : Nat} (hd : 1 ≤ d) : go gd_P0 d 202 4 [.ref 1231, .null] [] h = some (.inl none, h) := by
  rw [s202_4, if_pos hb.1.t, b185 hb hd, gc_v, s202_8, if_pos rfl, s202_90]
theorem l201 {h : gd_H} (hb : BS h) {d : Nat} (hd : 1 ≤ d) : go gd_P0 d 201 4 [.ref 1231, .null] [] h = some (.inl none, h) := by
  rw [s201_4, if_pos hb.1.t, b185 hb hd, gc_v, s201_8, if_pos rfl, s201_67]
theorem b202 {h : gd_H} (hb : BS h) {d : Nat} (hd : 3 ≤ d) : run gd_P0 d 202 [.ref 1231] h = some (.inl none, h) := by
  obtain ⟨d, rfl⟩ : ∃ e, d = e + 1 := ⟨d - 1, by omega⟩
  rw [r202, s202_0, if_pos hb.1.t, b203 hb (by omega), gc_n, l202 hb (by omega)]
theorem b201 {h : gd_H} (hb : BS h) {d : Nat} (hd : 4 ≤ d) : run gd_P0 d 201 [.ref 1231] h = some (.inl none, h) := by
  obtain ⟨d, rfl⟩ : ∃ e, d = e + 1 := ⟨d - 1, by omega⟩
  rw [r201, s201_0, if_pos hb.1.t, b202 hb (by omega), gc_n, l201 hb (by omega)]
/-- a code is laid -/
theorem m205 {h : gd_H} {X : gdX} (hb : MB h X) {d : Nat} (hd : 2 ≤ d) (p o : Nat) {c : Nat} (hc : gI h 1231 27 = Int32.ofNat c) (hc2 : c < 150) (k w : Nat) : ∃ h', run gd_P0 d 205 [.ref 1231, .int (Int32.ofNat k), .int (Int32.ofNat w)] (mm h p o) = some (.inl none, mm h' p o) ∧ CW c [(k, w)] h h' := by
  obtain ⟨d, rfl⟩ : ∃ e, d = e + 1 := ⟨d - 1, by omega⟩
  have hm := hb.1
  have hc1 : gI (mm h p o) 1231 27 = Int32.ofNat c := (mm_j h p o (by omega) (by omega)).trans hc
  have hcl : (¬ (Int32.ofNat c < 0 ∨ 150 ≤ (Int32.ofNat c).toNatClampNeg)) := by rw [j_ix (by omega) hc2]; exact trivial
  refine ⟨wI h (up1 (up1 (up1 (gI h) 1242 c (Int32.ofNat k)) 1243 c (Int32.ofNat w)) 1231 27 (Int32.ofNat (c + 1))), ?_, _, rfl, fun b h1 h2 h3 => ?_, fun j hj => ?_, ?_, fun i hi => ?_, fun i hi => ?_⟩
  · rw [r205, s205_0, gT_mm, if_pos hm.t, m185 hb (by omega), gc_v, s205_4, if_neg (show ¬ (1 : Int32) = 0 by decide), gT_mm, gR_mm, gL_mm, if_pos hm.t, if_pos hm.t, m_r22 hm, m_t22 hm, m_l22 hm, m_r23 hm, m_t23 hm, m_l23 hm, hc1, j_cl (by omega), if_pos ⟨rfl, by have := hcl; rw [j_cl (by omega)] at this; exact this⟩, if_pos hm.t, if_pos hm.t]
    have e1 : up1 (gI (mm h p o)) 1242 c (Int32.ofNat k) 1231 27 = Int32.ofNat c := by rw [up1_nc _ _ _ (by omega)]; exact hc1
    have e2 : up1 (up1 (gI (mm h p o)) 1242 c (Int32.ofNat k)) 1243 c (Int32.ofNat w) 1231 27 = Int32.ofNat c := by rw [up1_nc _ _ _ (by omega)]; exact e1
    rw [e1, if_pos ⟨rfl, hcl⟩, if_pos hm.t, if_pos hm.t, j_cl (by omega), e2, j_s]
    congr 2
    unfold mm
    rw [wI_wI, wI_wI]
    congr 1
    funext b j
    simp only [gI_wI, up1]
    by_cases b1 : b = 1231
    · subst b1
      by_cases j7 : j = 7
      · subst j7; simp
      · by_cases j4 : j = 4
        · subst j4; simp
        · simp [j7, j4]
    · simp [b1]
  · rw [up1_nc _ _ _ h3, up1_nc _ _ _ h2, up1_nc _ _ _ h1]
  · rw [up1_nj _ _ hj, up1_nc _ _ _ (by omega), up1_nc _ _ _ (by omega)]
  · rw [up1_eq]; rfl
  · refine ⟨?_, ?_⟩
    · rw [up1_nc _ _ _ (by omega), up1_nc _ _ _ (by omega), up1_nj _ _ (by omega)]
    · rw [up1_nc _ _ _ (by omega), up1_nj _ _ (by omega), up1_nc _ _ _ (by omega)]
  · have : i = 0 := by have : i < 1 := hi; omega
    subst this
    refine ⟨?_, ?_⟩
    · rw [up1_nc _ _ _ (by omega), up1_nc _ _ _ (by omega), Nat.add_zero, up1_eq]; rfl
    · rw [up1_nc _ _ _ (by omega), Nat.add_zero, up1_eq]; rfl
/-- what stands behind a sign -/
theorem mlp2 {X : gdX} {o dm m k pcC pcR pcN pcH mn : Nat} {nx : Nat → gdQ gdK} {d : Nat} {h0 h1 : gd_H} {c0 p1 q : Nat} {a1 : gdK} {cont : Nat → gdK → gdQ gdK}
    (hX5 : xn X ≤ 150) (hn : KVs X o nx mn dm) (hg : ∀ p, p ≤ xn X → QG X p (KG p) (nx p)) (hd : dm ≤ d) (hd1 : 2 ≤ d) (hb : MB h0 X) (hS : SK h0) (h1q : p1 ≤ q) (hq : q + 1 ≤ xn X) (kc : CW c0 a1.1 h0 h1) (hc : c0 + a1.1.length ≤ p1)
    (e1 : ∀ (h : gd_H), MS h → go gd_P0 d m pcR [.ref 1231, .int (Int32.ofNat k)] [] h = gc gd_P0 d m pcN pcH [.ref 1231, .int (Int32.ofNat k)] [] (run gd_P0 d 205 [.ref 1231, .int (Int32.ofNat k), .int 0] h))
    (e2 : ∀ (h : gd_H), go gd_P0 d m pcH [.ref 1231, .int (Int32.ofNat k)] [] h = go gd_P0 d m 4 [.ref 1231, .null] [] h)
    (e3 : ∀ (h : gd_H), BS h → go gd_P0 d m 4 [.ref 1231, .null] [] h = some (.inl none, h))
    (ih : ∀ (h2 : gd_H) (p2 : Nat) (a2 : gdK), q + 1 < p2 → p2 ≤ xn X → CW c0 a2.1 h0 h2 → c0 + a2.1.length ≤ p2 → KO h0 o c0 (cont p2 a2) (go gd_P0 d m 4 [.ref 1231, .null] [] (mm h2 p2 o))) :
    KO h0 o c0 (qb (nx (q + 1)) fun p' b => cont p' (kBin k a1 b)) (gc gd_P0 d m pcC pcR [.ref 1231, .int (Int32.ofNat k)] [] (run gd_P0 d mn [.ref 1231] (mm h1 (q + 1) o))) := by
  have hX : XO X := hb.2.2.2
  have hb1 := hb.cw kc
  have hS1 := hS.mz kc.mz
  have r := hn d h1 (q + 1) (c0 + a1.1.length) hd hb1 hS1 kc.c hq (by omega)
  have g := hg (q + 1) hq
  revert r g
  rcases nx (q + 1) with ⟨kk, pl⟩ | ⟨p', b⟩
  · rintro ⟨h', e, me⟩ g
    have hbs := me.bs hb1.1 (by have := g.2; omega)
    rw [e, gc_n, e1 h' hbs.1, b205 hbs (by omega), gc_n, e2, e3 h' hbs]
    exact ⟨h', rfl, me.mz kc.z0⟩
  · rintro ⟨h2, e, k2⟩ ⟨g1, g2, g3, g4⟩
    have k3 := kc.trans k2
    have hb2 := hb.cw k3
    have hl := g4
    obtain ⟨h3, e5, k4⟩ := m205 hb2 (d := d) (by omega) p' o k3.c (by rw [List.length_append]; omega) k 0
    have e5 : run gd_P0 d 205 [.ref 1231, .int (Int32.ofNat k), .int 0] (mm h2 p' o) = _ := e5
    have k5 := k3.trans k4
    rw [e, gc_n, e1 (mm h2 p' o) hb2.1, e5, gc_n, e2]
    exact ih h3 p' (kBin k a1 b) g1 g2 k5 (by
      show c0 + (a1.1 ++ b.1 ++ [(k, 0)]).length ≤ p'
      rw [List.length_append, List.length_append]
      show c0 + (a1.1.length + b.1.length + 1) ≤ p'
      omega)
theorem mpP {X : gdX} {o dm : Nat} {u : Nat → gdQ gdK} (hX5 : xn X ≤ 150) (hu : KVs X o u 203 dm) (hg : ∀ p, p ≤ xn X → QG X p (KG p) (u p)) {d : Nat} (hd : dm ≤ d) (hd1 : 3 ≤ d) {h0 : gd_H} {c0 : Nat} (hb : MB h0 X) (hS : SK h0) : ∀ (f p1 : Nat) (h1 : gd_H) (a1 : gdK), xn X < f + p1 → p1 ≤ xn X → CW c0 a1.1 h0 h1 → c0 + a1.1.length ≤ p1 → KO h0 o c0 (lLp X sgP u f p1 a1) (go gd_P0 d 202 4 [.ref 1231, .null] [] (mm h1 p1 o))
  | 0, p1, h1, a1, x0, x1, x2, x3 => absurd x0 (by omega)
  | f + 1, p1, h1, a1, x0, x1, x2, x3 => by
    have hX : XO X := hb.2.2.2
    have hb1 := hb.cw x2
    have hm := hb1.1
    have g1 := sk_ge X p1
    have g2 := sk_le x1
    have sq := sk_sk x1
    have here := m187 hb1 (d := d) (by omega) g2 o
    rw [sq] at here
    have ih := fun (h2 : gd_H) (p2 : Nat) (a2 : gdK) (y1 : sk X p1 + 1 < p2) (y2 : p2 ≤ xn X) (y3 : CW c0 a2.1 h0 h2) (y4 : c0 + a2.1.length ≤ p2) => mpP hX5 hu hg hd hd1 hb hS f p2 h2 a2 (by omega) y2 y3 y4
    have s66 : ∀ k w, go gd_P0 d 202 66 [.ref 1231, w] [.int (Int32.ofNat k)] (mm h1 (sk X p1) o) = gc gd_P0 d 202 78 81 [.ref 1231, .int (Int32.ofNat k)] [] (run gd_P0 d 203 [.ref 1231] (mm h1 (sk X p1 + 1) o)) := by
      intro k w
      rw [s202_66]
      simp only [gT_mm, hm.t, ↓reduceIte, mm_4, j_s, mm_w4]
    have s81 : ∀ k (h : gd_H), MS h → go gd_P0 d 202 81 [.ref 1231, .int (Int32.ofNat k)] [] h = gc gd_P0 d 202 84 87 [.ref 1231, .int (Int32.ofNat k)] [] (run gd_P0 d 205 [.ref 1231, .int (Int32.ofNat k), .int 0] h) := fun k h hm => by rw [s202_81, if_pos hm.t]
    rw [s202_4, gT_mm, if_pos hm.t, m185 hb1 (by omega), gc_v, s202_8, if_neg (show ¬ (1 : Int32) = 0 by decide), gT_mm, if_pos hm.t, m187 hb1 (by omega) x1, gc_v, s202_15, lLp]
    have e42 : (mv X (sk X p1) = 42) = (ch X (sk X p1) = 42) := mv_eq hX _ (c := 42) (by omega) (by omega)
    have e47 : (mv X (sk X p1) = 47) = (ch X (sk X p1) = 47) := mv_eq hX _ (c := 47) (by omega) (by omega)
    have e37 : (mv X (sk X p1) = 37) = (ch X (sk X p1) = 37) := mv_eq hX _ (c := 37) (by omega) (by omega)
    simp only [e42]
    by_cases c42 : ch X (sk X p1) = 42
    · have hq := ch_lt (X := X) (q := sk X p1) (by omega)
      rw [if_pos c42, c42, if_neg (by decide), s202_38, gT_mm, if_pos hm.t, here, gc_v, s202_42, if_pos (e42.mpr c42)]
      rw [show (4 : Int32) = Int32.ofNat 4 from rfl, s66]
      exact mlp2 (k := 4) hX5 hu hg hd (by omega) hb hS g1 hq x2 x3 (s81 4) (fun h => s202_87 ..) (fun h hb => l202 hb (by omega)) ih
    · rw [if_neg c42, gT_mm, if_pos hm.t, here, gc_v, s202_24]
      simp only [e47]
      by_cases c47 : ch X (sk X p1) = 47
      · have hq := ch_lt (X := X) (q := sk X p1) (by omega)
        rw [if_pos c47, c47, if_neg (by decide), s202_38, gT_mm, if_pos hm.t, here, gc_v, s202_42, if_neg (fun z => c42 (e42.mp z)), gT_mm, if_pos hm.t, here, gc_v, s202_55, if_pos (e47.mpr c47)]
        rw [show (5 : Int32) = Int32.ofNat 5 from rfl, s66]
        exact mlp2 (k := 5) hX5 hu hg hd (by omega) hb hS g1 hq x2 x3 (s81 5) (fun h => s202_87 ..) (fun h hb => l202 hb (by omega)) ih
      · rw [if_neg c47, gT_mm, if_pos hm.t, here, gc_v, s202_33]
        simp only [e37]
        by_cases c37 : ch X (sk X p1) = 37
        · have hq := ch_lt (X := X) (q := sk X p1) (by omega)
          rw [if_pos c37, c37, if_neg (by decide), s202_38, gT_mm, if_pos hm.t, here, gc_v, s202_42, if_neg (fun z => c42 (e42.mp z)), gT_mm, if_pos hm.t, here, gc_v, s202_55, if_neg (fun z => c47 (e47.mp z))]
          rw [show (8 : Int32) = Int32.ofNat 8 from rfl, s66]
          exact mlp2 (k := 8) hX5 hu hg hd (by omega) hb hS g1 hq x2 x3 (s81 8) (fun h => s202_87 ..) (fun h hb => l202 hb (by omega)) ih
        · have z : sgP (ch X (sk X p1)) = 0 := by unfold sgP; rw [if_neg c42, if_neg c47, if_neg c37]
          rw [if_neg c37, if_pos z, s202_90]
          exact ⟨h1, rfl, x2⟩
theorem msP {X : gdX} {o dm : Nat} {u : Nat → gdQ gdK} (hX5 : xn X ≤ 150) (hdm : 3 ≤ dm) (hu : KVs X o u 203 dm) (hg : ∀ p, p ≤ xn X → QG X p (KG p) (u p)) : KVs X o (lPr X u) 202 (dm + 1) := by
  intro d h p c hd hb hS hc hp hcp
  obtain ⟨d, rfl⟩ : ∃ e, d = e + 1 := ⟨d - 1, by omega⟩
  have r := hu d h p c (by omega) hb hS hc hp hcp
  have g := hg p hp
  have hX : XO X := hb.2.2.2
  rw [r202, s202_0, gT_mm, if_pos hb.1.t]
  unfold lPr
  revert r g
  rcases u p with ⟨kk, pl⟩ | ⟨p', b⟩
  · rintro ⟨h', e, me⟩ g
    have hbs := me.bs hb.1 (by have := g.2; omega)
    rw [e, gc_n, l202 hbs (by omega)]
    exact ⟨h', rfl, me⟩
  · rintro ⟨h2, e, k3⟩ ⟨g1, g2, -, g4⟩
    rw [e, gc_n, qb_r]
    exact mpP hX5 hu hg (by omega) (by omega) hb hS _ p' h2 b (by omega) g2 k3 (by omega)
theorem mpS {X : gdX} {o dm : Nat} {u : Nat → gdQ gdK} (hX5 : xn X ≤ 150) (hu : KVs X o u 202 dm) (hg : ∀ p, p ≤ xn X → QG X p (KG p) (u p)) {d : Nat} (hd : dm ≤ d) (hd1 : 3 ≤ d) {h0 : gd_H} {c0 : Nat} (hb : MB h0 X) (hS : SK h0) : ∀ (f p1 : Nat) (h1 : gd_H) (a1 : gdK), xn X < f + p1 → p1 ≤ xn X → CW c0 a1.1 h0 h1 → c0 + a1.1.length ≤ p1 → KO h0 o c0 (lLp X sgS u f p1 a1) (go gd_P0 d 201 4 [.ref 1231, .null] [] (mm h1 p1 o))
  | 0, p1, h1, a1, x0, x1, x2, x3 => absurd x0 (by omega)
  | f + 1, p1, h1, a1, x0, x1, x2, x3 => by
    have hX : XO X := hb.2.2.2
    have hb1 := hb.cw x2
    have hm := hb1.1
    have g1 := sk_ge X p1
    have g2 := sk_le x1
    have sq := sk_sk x1
    have here := m187 hb1 (d := d) (by omega) g2 o
    rw [sq] at here
    have ih := fun (h2 : gd_H) (p2 : Nat) (a2 : gdK) (y1 : sk X p1 + 1 < p2) (y2 : p2 ≤ xn X) (y3 : CW c0 a2.1 h0 h2) (y4 : c0 + a2.1.length ≤ p2) => mpS hX5 hu hg hd hd1 hb hS f p2 h2 a2 (by omega) y2 y3 y4
    have s66 : ∀ k w, go gd_P0 d 201 43 [.ref 1231, w] [.int (Int32.ofNat k)] (mm h1 (sk X p1) o) = gc gd_P0 d 201 55 58 [.ref 1231, .int (Int32.ofNat k)] [] (run gd_P0 d 202 [.ref 1231] (mm h1 (sk X p1 + 1) o)) := by
      intro k w
      rw [s201_43]
      simp only [gT_mm, hm.t, ↓reduceIte, mm_4, j_s, mm_w4]
    have s81 : ∀ k (h : gd_H), MS h → go gd_P0 d 201 58 [.ref 1231, .int (Int32.ofNat k)] [] h = gc gd_P0 d 201 61 64 [.ref 1231, .int (Int32.ofNat k)] [] (run gd_P0 d 205 [.ref 1231, .int (Int32.ofNat k), .int 0] h) := fun k h hm => by rw [s201_58, if_pos hm.t]
    rw [s201_4, gT_mm, if_pos hm.t, m185 hb1 (by omega), gc_v, s201_8, if_neg (show ¬ (1 : Int32) = 0 by decide), gT_mm, if_pos hm.t, m187 hb1 (by omega) x1, gc_v, s201_15, lLp]
    have e42 : (mv X (sk X p1) = 43) = (ch X (sk X p1) = 43) := mv_eq hX _ (c := 43) (by omega) (by omega)
    have e47 : (mv X (sk X p1) = 45) = (ch X (sk X p1) = 45) := mv_eq hX _ (c := 45) (by omega) (by omega)
    simp only [e42]
    by_cases c42 : ch X (sk X p1) = 43
    · have hq := ch_lt (X := X) (q := sk X p1) (by omega)
      rw [if_pos c42, c42, if_neg (by decide), s201_29, gT_mm, if_pos hm.t, here, gc_v, s201_33, if_pos (e42.mpr c42)]
      rw [show (2 : Int32) = Int32.ofNat 2 from rfl, s66]
      exact mlp2 (k := 2) hX5 hu hg hd (by omega) hb hS g1 hq x2 x3 (s81 2) (fun h => s201_64 ..) (fun h hb => l201 hb (by omega)) ih
    · rw [if_neg c42, gT_mm, if_pos hm.t, here, gc_v, s201_24]
      simp only [e47]
      by_cases c47 : ch X (sk X p1) = 45
      · have hq := ch_lt (X := X) (q := sk X p1) (by omega)
        rw [if_pos c47, c47, if_neg (by decide), s201_29, gT_mm, if_pos hm.t, here, gc_v, s201_33, if_neg (fun z => c42 (e42.mp z))]
        rw [show (3 : Int32) = Int32.ofNat 3 from rfl, s66]
        exact mlp2 (k := 3) hX5 hu hg hd (by omega) hb hS g1 hq x2 x3 (s81 3) (fun h => s201_64 ..) (fun h hb => l201 hb (by omega)) ih
      · have z : sgS (ch X (sk X p1)) = 0 := by unfold sgS; rw [if_neg c42, if_neg c47]
        rw [if_neg c47, if_pos z, s201_67]
        exact ⟨h1, rfl, x2⟩
theorem msS {X : gdX} {o dm : Nat} {u : Nat → gdQ gdK} (hX5 : xn X ≤ 150) (hdm : 3 ≤ dm) (hu : KVs X o u 202 dm) (hg : ∀ p, p ≤ xn X → QG X p (KG p) (u p)) : KVs X o (fun p => qb (u p) fun p' a => lLp X sgS u (xn X + 1) p' a) 201 (dm + 1) := by
  intro d h p c hd hb hS hc hp hcp
  obtain ⟨d, rfl⟩ : ∃ e, d = e + 1 := ⟨d - 1, by omega⟩
  have r := hu d h p c (by omega) hb hS hc hp hcp
  have g := hg p hp
  have hX : XO X := hb.2.2.2
  rw [r201, s201_0, gT_mm, if_pos hb.1.t]
  show KO h o c (qb (u p) fun p' a => lLp X sgS u (xn X + 1) p' a) _
  revert r g
  rcases u p with ⟨kk, pl⟩ | ⟨p', b⟩
  · rintro ⟨h', e, me⟩ g
    have hbs := me.bs hb.1 (by have := g.2; omega)
    rw [e, gc_n, l201 hbs (by omega)]
    exact ⟨h', rfl, me⟩
  · rintro ⟨h2, e, k3⟩ ⟨g1, g2, -, g4⟩
    rw [e, gc_n, qb_r]
    exact mpS hX5 hu hg (by omega) (by omega) hb hS _ p' h2 b (by omega) g2 k3 (by omega)

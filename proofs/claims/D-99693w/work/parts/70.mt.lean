/-! ===== THE MODEL's READER: tokens ===== -/
set_option maxRecDepth 100000
/-- at a place, so many open -/
def mm (h : gd_H) (p o : Nat) : gd_H := wI h (up1 (up1 (gI h) 1231 4 (Int32.ofNat p)) 1231 7 (Int32.ofNat o))
theorem gT_mm (h : gd_H) (p o : Nat) : gT (mm h p o) = gT h := rfl
theorem gL_mm (h : gd_H) (p o : Nat) : gL (mm h p o) = gL h := rfl
theorem gR_mm (h : gd_H) (p o : Nat) : gR (mm h p o) = gR h := rfl
theorem gS_mm (h : gd_H) (p o : Nat) : gS (mm h p o) = gS h := rfl
theorem mm_4 (h : gd_H) (p o : Nat) : gI (mm h p o) 1231 4 = Int32.ofNat p := by unfold mm; rw [gI_wI]; simp [up1]
theorem mm_7 (h : gd_H) (p o : Nat) : gI (mm h p o) 1231 7 = Int32.ofNat o := by unfold mm; rw [gI_wI]; simp [up1]
theorem mm_j (h : gd_H) (p o : Nat) {j : Nat} (h2 : j ≠ 4) (h3 : j ≠ 7) : gI (mm h p o) 1231 j = gI h 1231 j := by show up1 (up1 _ _ _ _) _ _ _ _ _ = _; simp [up1, h2, h3]
theorem mm_b (h : gd_H) (p o : Nat) {b : Nat} (hb : b ≠ 1231) : gI (mm h p o) b = gI h b := by funext j; show up1 (up1 _ _ _ _) _ _ _ _ _ = _; simp [up1, hb]
theorem mm_w4 (h : gd_H) (p o p' : Nat) : wI (mm h p o) (up1 (gI (mm h p o)) 1231 4 (Int32.ofNat p')) = mm h p' o := by
  unfold mm
  rw [wI_wI]
  congr 1
  funext b j
  simp only [gI_wI, up1]
  by_cases hb : b = 1231
  · by_cases h2 : j = 4
    · simp [hb, h2]
    · simp [hb, h2]
  · simp [hb]
theorem mm_w7 (h : gd_H) (p o o' : Nat) : wI (mm h p o) (up1 (gI (mm h p o)) 1231 7 (Int32.ofNat o')) = mm h p o' := by
  unfold mm
  rw [wI_wI]
  congr 1
  funext b j
  simp only [gI_wI, up1]
  by_cases hb : b = 1231
  · by_cases h2 : j = 7
    · simp [hb, h2]
    · simp [hb, h2]
  · simp [hb]
/-- another write goes under it -/
theorem mm_wa {h : gd_H} {a k : Nat} (ha : a ≠ 1231 ∨ (k ≠ 4 ∧ k ≠ 7)) (p o : Nat) (v : Int32) : wI (mm h p o) (up1 (gI (mm h p o)) a k v) = mm (wI h (up1 (gI h) a k v)) p o := by
  unfold mm
  rw [wI_wI, wI_wI]
  congr 1
  funext b j
  simp only [gI_wI, up1]
  by_cases z : b = a ∧ j = k
  · obtain ⟨rfl, rfl⟩ := z
    by_cases z2 : b = 1231
    · subst z2
      have z3 : j ≠ 4 := by omega
      have z4 : j ≠ 7 := by omega
      simp [z3, z4]
    · simp [z2]
  · simp [z]
/-- a text in the model's cells -/
def MB (h : gd_H) (X : gdX) : Prop := MS h ∧ (gI h 1231 3 = Int32.ofNat (xn X) ∧ gI h 1231 5 = -1) ∧ (∀ j, j < xn X → gI h 1233 j = Int32.ofNat (xb X j)) ∧ XO X
theorem MS.mm {h : gd_H} (hm : MS h) (p o : Nat) : MS (mm h p o) := hm
theorem MS.mz {h h' : gd_H} (hm : MS h) (q : MZ h h') : MS h' := by
  obtain ⟨I', J', rfl, -⟩ := q
  exact hm
theorem MZ.mm (h : gd_H) (p o : Nat) : MZ h (mm h p o) := (MZ.th 4 (Int32.ofNat p) (by decide)).trans (MZ.th (h := wI h (up1 (gI h) 1231 4 (Int32.ofNat p))) 7 (Int32.ofNat o) (by decide))
/-- what a reading leaves, and what was thrown -/
def MZ0 (h h' : gd_H) : Prop := MZ h h' ∧ gI h' 1231 0 = gI h 1231 0
theorem MZ0.trans {h1 h2 h3 : gd_H} (a : MZ0 h1 h2) (b : MZ0 h2 h3) : MZ0 h1 h3 := ⟨a.1.trans b.1, b.2.trans a.2⟩
theorem MZ0.th {h : gd_H} (j : Nat) (v : Int32) (hj : j ∉ ([2, 8, 20, 21, 28, 33, 34, 42, 45, 56] : List Nat)) (h0 : j ≠ 0) : MZ0 h (wI h (up1 (gI h) 1231 j v)) := ⟨MZ.th j v hj, by rw [gI_wI, up1_nj _ _ (fun z => h0 z.symm)]⟩
/-- a fault: why, where -/
def ME (h : gd_H) (k pl : Nat) (h' : gd_H) : Prop := MZ0 h h' ∧ gI h' 1231 5 = Int32.ofNat pl ∧ gI h' 1231 6 = Int32.ofNat k
theorem ME.mz {h h1 h' : gd_H} {k pl : Nat} (q : MZ0 h h1) (e : ME h1 k pl h') : ME h k pl h' := ⟨q.trans e.1, e.2⟩
theorem MZ0.mm (h : gd_H) (p o : Nat) : MZ0 h (mm h p o) := ⟨MZ.mm h p o, mm_j h p o (by omega) (by omega)⟩
/-- behind a fault -/
def BS (h : gd_H) : Prop := MS h ∧ gI h 1231 5 ≠ -1
theorem ME.bs {h h' : gd_H} {k pl : Nat} (hm : MS h) (e : ME h k pl h') (hp : pl < 100000) : BS h' := ⟨hm.mz e.1.1, by rw [e.2.1]; intro z; rw [j_m1 (by omega)] at z; exact z⟩
def mv (X : gdX) (k : Nat) : Int32 := if k < xn X then Int32.ofNat (xb X k) else 0
theorem mv_in {X : gdX} {k : Nat} (h : k < xn X) : mv X k = Int32.ofNat (xb X k) := if_pos h
theorem mv_out {X : gdX} {k : Nat} (h : xn X ≤ k) : mv X k = 0 := if_neg (by omega)
theorem mv_eq {X : gdX} (hX : XO X) (k : Nat) {c : Nat} (hc : c < 256) (h0 : 1 ≤ c) : (mv X k = Int32.ofNat c) = (ch X k = c) := by
  by_cases h : k < xn X
  · have := hX.2 k h
    rw [mv_in h, ch_in h, j_eq (by omega) (by omega)]
  · rw [mv_out (by omega), ch_end (by omega), show (0 : Int32) = Int32.ofNat 0 from rfl, j_eq (by omega) (by omega)]
    exact propext ⟨fun z => by omega, fun z => by omega⟩
theorem m185 {h : gd_H} {X : gdX} (hb : MB h X) {d : Nat} (hd : 1 ≤ d) (p o : Nat) : run gd_P0 d 185 [.ref 1231] (mm h p o) = some (.inl (some (.int 1)), mm h p o) := by
  obtain ⟨d, rfl⟩ : ∃ e, d = e + 1 := ⟨d - 1, by omega⟩
  rw [r185, s185_0, gT_mm, if_pos hb.1.t, mm_j h p o (by omega) (by omega), if_pos hb.2.1.2, s185_13, if_pos (Or.inr rfl)]
theorem b185 {h : gd_H} (hb : BS h) {d : Nat} (hd : 1 ≤ d) : run gd_P0 d 185 [.ref 1231] h = some (.inl (some (.int 0)), h) := by
  obtain ⟨d, rfl⟩ : ∃ e, d = e + 1 := ⟨d - 1, by omega⟩
  rw [r185, s185_0, if_pos hb.1.t, if_neg hb.2, s185_13, if_pos (Or.inl rfl)]
theorem m187g {h : gd_H} {X : gdX} (hm : MS h) (h3 : gI h 1231 3 = Int32.ofNat (xn X)) (hB : ∀ j, j < xn X → gI h 1233 j = Int32.ofNat (xb X j)) (hX : XO X) {d : Nat} (hd : 1 ≤ d) {p : Nat} (hp : p ≤ xn X) (o : Nat) : run gd_P0 d 187 [.ref 1231] (mm h p o) = some (.inl (some (.int (mv X (sk X p)))), mm h (sk X p) o) := by
  obtain ⟨d, rfl⟩ : ∃ e, d = e + 1 := ⟨d - 1, by omega⟩
  have hn : xn X ≤ 600 := hX.1
  rw [r187]
  have fin : ∀ j, j ≤ xn X → go gd_P0 d 187 38 [.ref 1231] [] (mm h j o) = some (.inl (some (.int (mv X j))), mm h j o) := by
    intro j hj
    rw [s187_38, gT_mm, gR_mm, gL_mm, if_pos hm.t, if_pos hm.t, mm_4, mm_j h j o (by omega) (by omega), h3, m_r9 hm, m_t9 hm, m_l9 hm, mm_b h j o (by omega)]
    by_cases c : j < xn X
    · rw [if_neg (by rw [j_le (by omega) (by omega)]; omega), if_pos hm.t, if_pos hm.t, if_pos ⟨rfl, by rw [j_ix (by omega) (by omega)]; exact trivial⟩, j_cl (by omega), hB j c, s187_62, mv_in c]
    · rw [if_pos (by rw [j_le (by omega) (by omega)]; omega), s187_62, mv_out (by omega)]
  have st : ∀ j, j ≤ xn X → go gd_P0 d 187 0 [.ref 1231] [] (mm h j o) = if decide (ch X j = 32) = true then go gd_P0 d 187 0 [.ref 1231] [] (mm h (j + 1) o) else some (.inl (some (.int (mv X j))), mm h j o) := by
    intro j hj
    rw [s187_0, gT_mm, gR_mm, gL_mm, if_pos hm.t, if_pos hm.t, mm_4, mm_j h j o (by omega) (by omega), h3, m_r9 hm, m_t9 hm, m_l9 hm, mm_b h j o (by omega)]
    by_cases c : j < xn X
    · have hx := hX.2 j c
      rw [if_neg (by rw [j_le (by omega) (by omega)]; omega), if_pos hm.t, if_pos hm.t, if_pos ⟨rfl, by rw [j_ix (by omega) (by omega)]; exact trivial⟩, j_cl (by omega), hB j c, ch_in c]
      simp only [show (32 : Int32) = Int32.ofNat 32 from rfl, j_eq (show xb X j < 2147483648 by omega) (show 32 < 2147483648 by omega), decide_eq_true_eq]
      by_cases z : xb X j = 32
      · rw [if_pos z, if_pos z, if_pos hm.t, if_pos hm.t, j_s, mm_w4]
      · rw [if_neg z, if_neg z, fin j hj]
    · rw [if_pos (by rw [j_le (by omega) (by omega)]; omega), ch_end (by omega), if_neg (by decide), fin j hj]
  refine ce_lp (fun j => go gd_P0 d 187 0 [.ref 1231] [] (mm h j o)) (fun j => some (.inl (some (.int (mv X j))), mm h j o)) (fun j => decide (xb X j = 32)) (xn X - p) p (fun j a b => ?_) ?_
  · have := st j (by omega)
    rw [ch_in (by omega)] at this
    exact this
  · have := st (p + (xn X - p)) (by omega)
    rw [ch_end (by omega)] at this
    exact this
theorem m187 {h : gd_H} {X : gdX} (hb : MB h X) {d : Nat} (hd : 1 ≤ d) {p : Nat} (hp : p ≤ xn X) (o : Nat) : run gd_P0 d 187 [.ref 1231] (mm h p o) = some (.inl (some (.int (mv X (sk X p)))), mm h (sk X p) o) := m187g hb.1 hb.2.1.1 hb.2.2.1 hb.2.2.2 hd hp o
theorem m186 {h : gd_H} {X : gdX} (hb : MB h X) {d : Nat} (hd : 2 ≤ d) {p : Nat} (hp : p ≤ xn X) (o : Nat) : run gd_P0 d 186 [.ref 1231] (mm h p o) = some (.inl (some (.int (if sk X p < xn X then 1 else 0))), mm h (sk X p) o) := by
  obtain ⟨d, rfl⟩ : ∃ e, d = e + 1 := ⟨d - 1, by omega⟩
  have hn : xn X ≤ 600 := hb.2.2.2.1
  have g2 := sk_le hp
  rw [r186, s186_0, gT_mm, if_pos hb.1.t, m187 hb (by omega) hp, gc_v, s186_4, gT_mm, if_pos hb.1.t, if_pos hb.1.t, mm_4, mm_j h (sk X p) o (by omega) (by omega), hb.2.1.1]
  by_cases c : sk X p < xn X
  · rw [if_neg (by rw [j_le (by omega) (by omega)]; omega), if_pos c, s186_21, if_pos (Or.inr rfl)]
  · rw [if_pos (by rw [j_le (by omega) (by omega)]; omega), if_neg c, s186_21, if_pos (Or.inl rfl)]
theorem m189 {v : Nat} (hv : v < 256) {d : Nat} (hd : 1 ≤ d) (h : gd_H) : run gd_P0 d 189 [.int (Int32.ofNat v)] h = some (.inl (some (.int (if sml v = true then 1 else 0))), h) := by
  obtain ⟨d, rfl⟩ : ∃ e, d = e + 1 := ⟨d - 1, by omega⟩
  rw [r189, s189_0]
  unfold sml
  by_cases c1 : v < 97
  · have c2 : ¬ (97 ≤ v ∧ v ≤ 122) := by omega
    simp (disch := first | omega | assumption) only [c1, c2, s189_16, s189_17, decide_false, Bool.false_eq_true, true_or, gT_wI, gR_wI, gL_wI, gS_wI, gU_wI, gI_wI, gJ_wI, gI_wJ, gJ_wJ, gR_wJ, gT_wJ, gL_wJ, gS_wJ, gU_wJ, gI_wR, gJ_wR, gR_wR, gT_wR, gL_wR, gS_wR, gU_wR, wI_wI, wJ_wJ, wR_wR, j_s, j_add, j_addL, j_addR, j_mulL, j_mulR, j_cl, j_clL, j_neg, j_negL, j_nn, j_lt, j_le, j_eq, j_ltL, j_ltR, j_leL, j_leR, j_eqL, j_eqR, j_m1, j_m1L, j_m1R, j_eqLL, j_ltLL, j_leLL, n_le0, n_le1, n_lt0, n_lt1, gc_v, gc_n, ↓reduceIte, and_true, true_and, and_self, or_self, or_false, false_or, not_false_eq_true, not_true_eq_false, false_and, and_false, Nat.reduceAdd, Nat.reduceEqDiff, Nat.reduceLeDiff, Nat.reduceLT]
  · by_cases c3 : 122 < v
    · have c2 : ¬ (97 ≤ v ∧ v ≤ 122) := by omega
      simp (disch := first | omega | assumption) only [c1, c2, c3, s189_16, s189_17, decide_false, Bool.false_eq_true, true_or, gT_wI, gR_wI, gL_wI, gS_wI, gU_wI, gI_wI, gJ_wI, gI_wJ, gJ_wJ, gR_wJ, gT_wJ, gL_wJ, gS_wJ, gU_wJ, gI_wR, gJ_wR, gR_wR, gT_wR, gL_wR, gS_wR, gU_wR, wI_wI, wJ_wJ, wR_wR, j_s, j_add, j_addL, j_addR, j_mulL, j_mulR, j_cl, j_clL, j_neg, j_negL, j_nn, j_lt, j_le, j_eq, j_ltL, j_ltR, j_leL, j_leR, j_eqL, j_eqR, j_m1, j_m1L, j_m1R, j_eqLL, j_ltLL, j_leLL, n_le0, n_le1, n_lt0, n_lt1, gc_v, gc_n, ↓reduceIte, and_true, true_and, and_self, or_self, or_false, false_or, not_false_eq_true, not_true_eq_false, false_and, and_false, Nat.reduceAdd, Nat.reduceEqDiff, Nat.reduceLeDiff, Nat.reduceLT]
    · have c2 : (97 ≤ v ∧ v ≤ 122) := by omega
      rw [decide_eq_true c2]
      simp (disch := first | omega | assumption) only [c1, c3, s189_16, s189_17, or_true, gT_wI, gR_wI, gL_wI, gS_wI, gU_wI, gI_wI, gJ_wI, gI_wJ, gJ_wJ, gR_wJ, gT_wJ, gL_wJ, gS_wJ, gU_wJ, gI_wR, gJ_wR, gR_wR, gT_wR, gL_wR, gS_wR, gU_wR, wI_wI, wJ_wJ, wR_wR, j_s, j_add, j_addL, j_addR, j_mulL, j_mulR, j_cl, j_clL, j_neg, j_negL, j_nn, j_lt, j_le, j_eq, j_ltL, j_ltR, j_leL, j_leR, j_eqL, j_eqR, j_m1, j_m1L, j_m1R, j_eqLL, j_ltLL, j_leLL, n_le0, n_le1, n_lt0, n_lt1, gc_v, gc_n, ↓reduceIte, and_true, true_and, and_self, or_self, or_false, false_or, not_false_eq_true, not_true_eq_false, false_and, and_false, Nat.reduceAdd, Nat.reduceEqDiff, Nat.reduceLeDiff, Nat.reduceLT]
theorem m196 {v : Nat} (hv : v < 256) {d : Nat} (hd : 1 ≤ d) (h : gd_H) : run gd_P0 d 196 [.int (Int32.ofNat v)] h = some (.inl (some (.int (if dgt v = true then 1 else 0))), h) := by
  obtain ⟨d, rfl⟩ : ∃ e, d = e + 1 := ⟨d - 1, by omega⟩
  rw [r196, s196_0]
  unfold dgt
  by_cases c1 : v < 48
  · have c2 : ¬ (48 ≤ v ∧ v ≤ 57) := by omega
    simp (disch := first | omega | assumption) only [c1, c2, s196_16, s196_17, decide_false, Bool.false_eq_true, true_or, gT_wI, gR_wI, gL_wI, gS_wI, gU_wI, gI_wI, gJ_wI, gI_wJ, gJ_wJ, gR_wJ, gT_wJ, gL_wJ, gS_wJ, gU_wJ, gI_wR, gJ_wR, gR_wR, gT_wR, gL_wR, gS_wR, gU_wR, wI_wI, wJ_wJ, wR_wR, j_s, j_add, j_addL, j_addR, j_mulL, j_mulR, j_cl, j_clL, j_neg, j_negL, j_nn, j_lt, j_le, j_eq, j_ltL, j_ltR, j_leL, j_leR, j_eqL, j_eqR, j_m1, j_m1L, j_m1R, j_eqLL, j_ltLL, j_leLL, n_le0, n_le1, n_lt0, n_lt1, gc_v, gc_n, ↓reduceIte, and_true, true_and, and_self, or_self, or_false, false_or, not_false_eq_true, not_true_eq_false, false_and, and_false, Nat.reduceAdd, Nat.reduceEqDiff, Nat.reduceLeDiff, Nat.reduceLT]
  · by_cases c3 : 57 < v
    · have c2 : ¬ (48 ≤ v ∧ v ≤ 57) := by omega
      simp (disch := first | omega | assumption) only [c1, c2, c3, s196_16, s196_17, decide_false, Bool.false_eq_true, true_or, gT_wI, gR_wI, gL_wI, gS_wI, gU_wI, gI_wI, gJ_wI, gI_wJ, gJ_wJ, gR_wJ, gT_wJ, gL_wJ, gS_wJ, gU_wJ, gI_wR, gJ_wR, gR_wR, gT_wR, gL_wR, gS_wR, gU_wR, wI_wI, wJ_wJ, wR_wR, j_s, j_add, j_addL, j_addR, j_mulL, j_mulR, j_cl, j_clL, j_neg, j_negL, j_nn, j_lt, j_le, j_eq, j_ltL, j_ltR, j_leL, j_leR, j_eqL, j_eqR, j_m1, j_m1L, j_m1R, j_eqLL, j_ltLL, j_leLL, n_le0, n_le1, n_lt0, n_lt1, gc_v, gc_n, ↓reduceIte, and_true, true_and, and_self, or_self, or_false, false_or, not_false_eq_true, not_true_eq_false, false_and, and_false, Nat.reduceAdd, Nat.reduceEqDiff, Nat.reduceLeDiff, Nat.reduceLT]
    · have c2 : (48 ≤ v ∧ v ≤ 57) := by omega
      rw [decide_eq_true c2]
      simp (disch := first | omega | assumption) only [c1, c3, s196_16, s196_17, or_true, gT_wI, gR_wI, gL_wI, gS_wI, gU_wI, gI_wI, gJ_wI, gI_wJ, gJ_wJ, gR_wJ, gT_wJ, gL_wJ, gS_wJ, gU_wJ, gI_wR, gJ_wR, gR_wR, gT_wR, gL_wR, gS_wR, gU_wR, wI_wI, wJ_wJ, wR_wR, j_s, j_add, j_addL, j_addR, j_mulL, j_mulR, j_cl, j_clL, j_neg, j_negL, j_nn, j_lt, j_le, j_eq, j_ltL, j_ltR, j_leL, j_leR, j_eqL, j_eqR, j_m1, j_m1L, j_m1R, j_eqLL, j_ltLL, j_leLL, n_le0, n_le1, n_lt0, n_lt1, gc_v, gc_n, ↓reduceIte, and_true, true_and, and_self, or_self, or_false, false_or, not_false_eq_true, not_true_eq_false, false_and, and_false, Nat.reduceAdd, Nat.reduceEqDiff, Nat.reduceLeDiff, Nat.reduceLT]
theorem m196v {X : gdX} (hX : XO X) {d : Nat} (hd : 1 ≤ d) (q : Nat) (h : gd_H) : run gd_P0 d 196 [.int (mv X q)] h = some (.inl (some (.int (if dgt (ch X q) = true then 1 else 0))), h) := by
  by_cases c : q < xn X
  · have := hX.2 q c
    rw [mv_in c, ch_in c]
    exact m196 (by omega) hd h
  · rw [mv_out (by omega), ch_end (by omega)]
    exact m196 (v := 0) (by omega) hd h
/-- a fault is noted -/
theorem m192 {h : gd_H} {X : gdX} (hb : MB h X) {d : Nat} (hd : 1 ≤ d) (p o k pl : Nat) : ∃ h', run gd_P0 d 192 [.ref 1231, .int (Int32.ofNat k), .int (Int32.ofNat pl)] (mm h p o) = some (.inl none, h') ∧ ME h k pl h' := by
  obtain ⟨d, rfl⟩ : ∃ e, d = e + 1 := ⟨d - 1, by omega⟩
  refine ⟨wI (mm h p o) (up1 (up1 (gI (mm h p o)) 1231 5 (Int32.ofNat pl)) 1231 6 (Int32.ofNat k)), ?_, ?_, ?_, ?_⟩
  · rw [r192, s192_0, gT_mm, if_pos hb.1.t, mm_j h p o (by omega) (by omega), if_pos hb.2.1.2, if_pos hb.1.t, if_pos hb.1.t]
  · exact (MZ0.mm h p o).trans ((MZ0.th 5 (Int32.ofNat pl) (by decide) (by decide)).trans (MZ0.th (h := wI (mm h p o) (up1 (gI (mm h p o)) 1231 5 (Int32.ofNat pl))) 6 (Int32.ofNat k) (by decide) (by decide)))
  · rw [gI_wI]; simp [up1]
  · rw [gI_wI]; simp [up1]
/-- how a token's reading ends -/
def MR {α : Type} (h : gd_H) (o : Nat) (bv : Option Value) (val : α → Option Value) : gdQ α → Option gd_O → Prop
  | .inl (k, pl), out => ∃ h', out = some (.inl bv, h') ∧ ME h k pl h'
  | .inr (p', a), out => out = some (.inl (val a), mm h p' o)
theorem m198 {h : gd_H} {X : gdX} (hb : MB h X) {d : Nat} (hd : 2 ≤ d) {p : Nat} (hp : p ≤ xn X) (o : Nat) {c : Nat} (hc : c < 256) (h0 : 1 ≤ c) : MR h o none (fun _ => none) (tS X c p) (run gd_P0 d 198 [.ref 1231, .int (Int32.ofNat c)] (mm h p o)) := by
  obtain ⟨d, rfl⟩ : ∃ e, d = e + 1 := ⟨d - 1, by omega⟩
  have hX : XO X := hb.2.2.2
  have hn6 : xn X ≤ 600 := hX.1
  have g2 := sk_le hp
  have e : run gd_P0 (d + 1) 198 [.ref 1231, .int (Int32.ofNat c)] (mm h p o) = go gd_P0 d 198 11 [.ref 1231, .int (Int32.ofNat c)] [.int (mv X (sk X p))] (mm h (sk X p) o) := by
    rw [r198, s198_0, gT_mm, if_pos hb.1.t, m185 hb (by omega), gc_v, s198_4, if_neg (show ¬ (1 : Int32) = 0 by decide), gT_mm, if_pos hb.1.t, m187 hb (by omega) hp, gc_v]
  rw [e, s198_11]
  simp only [mv_eq hX (sk X p) hc h0]
  unfold tS
  by_cases z : ch X (sk X p) = c
  · rw [if_pos z, if_pos z, s198_24, gT_mm, if_pos hb.1.t, m185 hb (by omega), gc_v, s198_28, if_neg (show ¬ (1 : Int32) = 0 by decide), gT_mm, if_pos hb.1.t, if_pos hb.1.t, mm_4, j_s, mm_w4, s198_41]
    rfl
  · obtain ⟨h', e1, e2⟩ := m192 hb (d := d) (by omega) (sk X p) o 1 (sk X p)
    have e1 : run gd_P0 d 192 [.ref 1231, .int 1, .int (Int32.ofNat (sk X p))] (mm h (sk X p) o) = _ := e1
    have hbs := e2.bs hb.1 (by omega)
    rw [if_neg z, if_neg z, gT_mm, if_pos hb.1.t, if_pos hb.1.t, mm_4, e1, gc_n, s198_24, if_pos hbs.1.t, b185 hbs (by omega), gc_v, s198_28, if_pos rfl, s198_41]
    exact ⟨h', rfl, e2⟩
theorem b198 {h : gd_H} (hb : BS h) {d : Nat} (hd : 2 ≤ d) (c : Int32) : run gd_P0 d 198 [.ref 1231, .int c] h = some (.inl none, h) := by
  obtain ⟨d, rfl⟩ : ∃ e, d = e + 1 := ⟨d - 1, by omega⟩
  rw [r198, s198_0, if_pos hb.1.t, b185 hb (by omega), gc_v, s198_4, if_pos rfl, s198_24, if_pos hb.1.t, b185 hb (by omega), gc_v, s198_28, if_pos rfl, s198_41]
theorem b195 {h : gd_H} (hb : BS h) {d : Nat} (hd : 2 ≤ d) (l u : Int32) : run gd_P0 d 195 [.ref 1231, .int l, .int u] h = some (.inl (some (.int 0)), h) := by
  obtain ⟨d, rfl⟩ : ∃ e, d = e + 1 := ⟨d - 1, by omega⟩
  rw [r195, s195_0, if_pos hb.1.t, b185 hb (by omega), gc_v, s195_4, if_pos rfl]
theorem m193 {h : gd_H} {X : gdX} (hb : MB h X) {d : Nat} (hd : 2 ≤ d) {p : Nat} (hp : p ≤ xn X) (o : Nat) : run gd_P0 d 193 [.ref 1231] (mm h p o) = some (.inl none, mm h (we X p) o) := by
  obtain ⟨d, rfl⟩ : ∃ e, d = e + 1 := ⟨d - 1, by omega⟩
  obtain ⟨hm, ⟨h3, h5⟩, hB, hX⟩ := hb
  have hn : xn X ≤ 600 := hX.1
  rw [r193]
  have st : ∀ j, j ≤ xn X → go gd_P0 d 193 0 [.ref 1231] [] (mm h j o) = if sml (ch X j) = true then go gd_P0 d 193 0 [.ref 1231] [] (mm h (j + 1) o) else some (.inl none, mm h j o) := by
    intro j hj
    rw [s193_0, gT_mm, gR_mm, gL_mm, if_pos hm.t, if_pos hm.t, mm_4, mm_j h j o (by omega) (by omega), h3, m_r9 hm, m_t9 hm, m_l9 hm, mm_b h j o (by omega)]
    by_cases c : j < xn X
    · have hx := hX.2 j c
      rw [if_neg (by rw [j_le (by omega) (by omega)]; omega), if_pos hm.t, if_pos hm.t, if_pos ⟨rfl, by rw [j_ix (by omega) (by omega)]; exact trivial⟩, j_cl (by omega), hB j c, m189 (by omega) (by omega), gc_v, s193_23, ch_in c]
      by_cases z : sml (xb X j) = true
      · rw [if_pos z, if_pos z, if_neg (show ¬ (1 : Int32) = 0 by decide), gT_mm, if_pos hm.t, if_pos hm.t, mm_4, j_s, mm_w4]
      · rw [if_neg z, if_neg z, if_pos rfl, s193_39]
    · rw [if_pos (by rw [j_le (by omega) (by omega)]; omega), ch_end (by omega), if_neg (by decide), s193_39]
  refine ce_lp (fun j => go gd_P0 d 193 0 [.ref 1231] [] (mm h j o)) (fun j => some (.inl none, mm h j o)) (fun j => sml (xb X j)) (xn X - p) p (fun j a b => ?_) ?_
  · have := st j (by omega)
    rw [ch_in (by omega)] at this
    exact this
  · have := st (p + (xn X - p)) (by omega)
    rw [ch_end (by omega)] at this
    exact this
theorem lp195 {h : gd_H} {X : gdX} (hb : MB h X) {d : Nat} (hd : 1 ≤ d) (o : Nat) (lo hi : Int32) (q : Nat) : ∀ (m j v va : Nat), j + m = xn X → v ≤ 99999 → min v 10000 = va → ∃ v', v' ≤ 99999 ∧ min v' 10000 = dv (xb X) (ce (fun j => dgt (xb X j)) m j - j) j va ∧
    go gd_P0 d 195 41 [.ref 1231, .int lo, .int hi, .null, .int (Int32.ofNat q), .int (Int32.ofNat v)] [] (mm h j o) = go gd_P0 d 195 114 [.ref 1231, .int lo, .int hi, .null, .int (Int32.ofNat q), .int (Int32.ofNat v')] [] (mm h (ce (fun j => dgt (xb X j)) m j) o) := by
  obtain ⟨hm, ⟨h3, h5⟩, hB, hX⟩ := hb
  have hn : xn X ≤ 600 := hX.1
  have st : ∀ j v, j < xn X → go gd_P0 d 195 41 [.ref 1231, .int lo, .int hi, .null, .int (Int32.ofNat q), .int (Int32.ofNat v)] [] (mm h j o) = go gd_P0 d 195 64 [.ref 1231, .int lo, .int hi, .null, .int (Int32.ofNat q), .int (Int32.ofNat v)] [.int (if dgt (xb X j) = true then 1 else 0)] (mm h j o) := by
    intro j v hj
    have hx := hX.2 j hj
    rw [s195_41, gT_mm, gR_mm, gL_mm, if_pos hm.t, if_pos hm.t, mm_4, mm_j h j o (by omega) (by omega), h3, m_r9 hm, m_t9 hm, m_l9 hm, mm_b h j o (by omega), if_neg (by rw [j_le (by omega) (by omega)]; omega), if_pos hm.t, if_pos hm.t, if_pos ⟨rfl, by rw [j_ix (by omega) (by omega)]; exact trivial⟩, j_cl (by omega), hB j hj, m196 (by omega) (by omega), gc_v]
  intro m
  induction m with
  | zero =>
    intro j v va hj hv ha
    refine ⟨v, hv, by rw [ce, Nat.sub_self, dv]; exact ha, ?_⟩
    rw [ce, s195_41, gT_mm, if_pos hm.t, if_pos hm.t, mm_4, mm_j h j o (by omega) (by omega), h3, if_pos (by rw [j_le (by omega) (by omega)]; omega)]
  | succ m ih =>
    intro j v va hj hv ha
    have hj2 : j < xn X := by omega
    by_cases z : dgt (xb X j) = true
    · have e1 : ce (fun j => dgt (xb X j)) (m + 1) j = ce (fun j => dgt (xb X j)) m (j + 1) := by rw [ce, if_pos z]
      have hx : 48 ≤ xb X j ∧ xb X j ≤ 57 := of_decide_eq_true z
      have e2 : go gd_P0 d 195 41 [.ref 1231, .int lo, .int hi, .null, .int (Int32.ofNat q), .int (Int32.ofNat v)] [] (mm h j o) = go gd_P0 d 195 41 [.ref 1231, .int lo, .int hi, .null, .int (Int32.ofNat q), .int (Int32.ofNat (if v ≤ 9999 then 10 * v + (xb X j - 48) else 10000))] [] (mm h (j + 1) o) := by
        rw [st j v hj2, if_pos z, s195_64, if_neg (show ¬ (1 : Int32) = 0 by decide)]
        have a1 : (10 : Int32) * Int32.ofNat v + Int32.ofNat (xb X j) - 48 = Int32.ofNat (10 * v + (xb X j - 48)) := by
          rw [show (10 : Int32) = Int32.ofNat 10 from rfl, j_mul, j_add, show (48 : Int32) = Int32.ofNat 48 from rfl, j_sub (by omega)]
          congr 1
          omega
        by_cases c : v ≤ 9999
        · rw [if_pos (by rw [show (9999 : Int32) = Int32.ofNat 9999 from rfl, j_le (by omega) (by omega)]; exact c), gT_mm, gR_mm, gL_mm, if_pos hm.t, if_pos hm.t, mm_4, m_r9 hm, m_t9 hm, m_l9 hm, mm_b h j o (by omega), if_pos ⟨rfl, by rw [j_ix (by omega) (by omega)]; exact trivial⟩, j_cl (by omega), hB j hj2, a1, s195_99, gT_mm, if_pos hm.t, if_pos hm.t, mm_4, j_s, mm_w4, if_pos c]
        · rw [if_neg (by rw [show (9999 : Int32) = Int32.ofNat 9999 from rfl, j_le (by omega) (by omega)]; exact c), s195_99, gT_mm, if_pos hm.t, if_pos hm.t, mm_4, j_s, mm_w4, if_neg c]
          rfl
      obtain ⟨v', h1, h2, h3⟩ := ih (j + 1) (if v ≤ 9999 then 10 * v + (xb X j - 48) else 10000) (min (10 * va + (xb X j - 48)) 10000) (by omega) (by split <;> omega) (by split <;> omega)
      have g := ce_ge (fun j => dgt (xb X j)) m (j + 1)
      refine ⟨v', h1, ?_, ?_⟩
      · rw [h2, e1, show ce (fun j => dgt (xb X j)) m (j + 1) - j = (ce (fun j => dgt (xb X j)) m (j + 1) - (j + 1)) + 1 by omega, dv]
      · rw [e2, h3, e1]
    · have e1 : ce (fun j => dgt (xb X j)) (m + 1) j = j := by rw [ce, if_neg z]
      refine ⟨v, hv, by rw [e1, Nat.sub_self, dv]; exact ha, ?_⟩
      rw [e1, st j v hj2, if_neg z, s195_64, if_pos rfl]
theorem m195 {h : gd_H} {X : gdX} (hb : MB h X) {d : Nat} (hd : 2 ≤ d) {p : Nat} (hp : p ≤ xn X) (o : Nat) {l hs : Nat} (hl : l ≤ 1) (hhs : hs ≤ 1001) {hi : Int32} (hh : ∀ v, v ≤ 1000000 → (Int32.ofNat v ≤ hi) = (v < hs)) : MR h o (some (.int 0)) (fun v => some (.int (Int32.ofNat v))) (tN X l hs p) (run gd_P0 d 195 [.ref 1231, .int (Int32.ofNat l), .int hi] (mm h p o)) := by
  obtain ⟨d, rfl⟩ : ∃ e, d = e + 1 := ⟨d - 1, by omega⟩
  have hX : XO X := hb.2.2.2
  have hn6 : xn X ≤ 600 := hX.1
  have g2 := sk_le hp
  have e : run gd_P0 (d + 1) 195 [.ref 1231, .int (Int32.ofNat l), .int hi] (mm h p o) = go gd_P0 d 195 27 [.ref 1231, .int (Int32.ofNat l), .int hi, .int (mv X (sk X p)), .int (Int32.ofNat (sk X p)), .int 0] [.int (if dgt (ch X (sk X p)) = true then 1 else 0)] (mm h (sk X p) o) := by
    rw [r195, s195_0, gT_mm, if_pos hb.1.t, m185 hb (by omega), gc_v, s195_4, if_neg (show ¬ (1 : Int32) = 0 by decide), gT_mm, if_pos hb.1.t, m187 hb (by omega) hp, gc_v, s195_13, gT_mm, if_pos hb.1.t, mm_4, m196v hX (by omega), gc_v]
  rw [e, s195_27]
  unfold tN
  by_cases z : dgt (ch X (sk X p)) = true
  · rw [if_pos z, if_pos z, if_neg (show ¬ (1 : Int32) = 0 by decide)]
    obtain ⟨v', h1, h2, h3⟩ := lp195 hb (d := d) (by omega) o (Int32.ofNat l) hi (sk X p) (xn X - sk X p) (sk X p) 0 0 (by omega) (by omega) (by omega)
    have h3 : go gd_P0 d 195 41 [.ref 1231, .int (Int32.ofNat l), .int hi, .null, .int (Int32.ofNat (sk X p)), .int 0] [] (mm h (sk X p) o) = go gd_P0 d 195 114 [.ref 1231, .int (Int32.ofNat l), .int hi, .null, .int (Int32.ofNat (sk X p)), .int (Int32.ofNat v')] [] (mm h (de X (sk X p)) o) := h3
    have h2 : min v' 10000 = dv (xb X) (de X (sk X p) - sk X p) (sk X p) 0 := h2
    have er : MR (α := Nat) h o (some (.int 0)) (fun v => some (.int (Int32.ofNat v))) (.inl (2, sk X p)) (go gd_P0 d 195 126 [.ref 1231, .int (Int32.ofNat l), .int hi, .null, .int (Int32.ofNat (sk X p)), .int (Int32.ofNat v')] [] (mm h (de X (sk X p)) o)) := by
      obtain ⟨h', e1, e2⟩ := m192 hb (d := d) (by omega) (de X (sk X p)) o 2 (sk X p)
      have e1 : run gd_P0 d 192 [.ref 1231, .int 2, .int (Int32.ofNat (sk X p))] (mm h (de X (sk X p)) o) = _ := e1
      rw [s195_126, gT_mm, if_pos hb.1.t, e1, gc_n, s195_133]
      exact ⟨h', rfl, e2⟩
    rw [h3, s195_114, ← h2]
    simp only [j_lt (show v' < 2147483648 by omega) (show l < 2147483648 by omega), hh v' (by omega)]
    by_cases c1 : v' < l
    · rw [if_pos c1, if_neg (by omega)]; exact er
    · rw [if_neg c1]
      by_cases c2 : v' < hs
      · rw [if_pos c2, if_pos (by omega), show min v' 10000 = v' by omega]; rfl
      · rw [if_neg c2, if_neg (by omega)]; exact er
  · obtain ⟨h', e1, e2⟩ := m192 hb (d := d) (by omega) (sk X p) o 1 (sk X p)
    have e1 : run gd_P0 d 192 [.ref 1231, .int 1, .int (Int32.ofNat (sk X p))] (mm h (sk X p) o) = _ := e1
    rw [if_neg z, if_neg z, if_pos rfl, gT_mm, if_pos hb.1.t, if_pos hb.1.t, mm_4, e1, gc_n, s195_39]
    exact ⟨h', rfl, e2⟩
/-! words as numbers -/
theorem sh5 {v w : Nat} (hv : v < 33554432) (hw : w < 32) : (Int32.ofNat v <<< ((5 : Int32) &&& 31)) ||| Int32.ofNat w = Int32.ofNat (v * 32 + w) := by
  refine Int32.toBitVec_inj.mp (BitVec.eq_of_toNat_eq ?_)
  have e5 : ((5 : Int32) &&& 31).toBitVec.smod 32 = 5#32 := by decide
  rw [Int32.toBitVec_or, Int32.toBitVec_shiftLeft, BitVec.toNat_or]
  show ((Int32.ofNat v).toBitVec <<< (((5 : Int32) &&& 31).toBitVec.smod 32).toNat).toNat ||| (Int32.ofNat w).toBitVec.toNat = (Int32.ofNat (v * 32 + w)).toBitVec.toNat
  rw [e5]
  have b : ∀ n, n < 4294967296 → (Int32.ofNat n).toBitVec.toNat = n := fun n hn => by
    show (BitVec.ofNat 32 n).toNat = n
    rw [BitVec.toNat_ofNat, Nat.mod_eq_of_lt hn]
  rw [BitVec.toNat_shiftLeft, b v (by omega), b w (by omega), b (v * 32 + w) (by omega)]
  show v <<< 5 % 2 ^ 32 ||| w = _
  have h1 : v <<< 5 = v * 32 := by rw [Nat.shiftLeft_eq]
  rw [Nat.mod_eq_of_lt (by rw [h1]; omega), ← Nat.shiftLeft_add_eq_or_of_lt (by omega : w < 2 ^ 5), h1]
theorem pw32 : ∀ n, n < 6 → 32 ^ n ≤ 33554432 := by decide
def wf : List Nat → Nat → Nat → Nat
  | [], v, _ => v
  | c :: l, v, n => wf l (if n < 6 then v * 32 + (c - 96) else 0) (n + 1)
theorem wf_wc : ∀ (l : List Nat) (v n : Nat), n + l.length ≤ 6 → wf l v n = l.foldl (fun v c => v * 32 + (c - 96)) v
  | [], v, n, h => rfl
  | c :: l, v, n, h => by
    rw [List.length_cons] at h
    rw [wf, if_pos (by omega), List.foldl_cons]
    exact wf_wc l _ _ (by omega)
def wv (l : List Nat) : Nat := if l.length ≤ 6 then wc l else 0
theorem lp188 {h : gd_H} {X : gdX} (hb : MB h X) {d : Nat} (hd : 1 ≤ d) (o q : Nat) : ∀ (m j v n : Nat), j + m = xn X → n ≤ j → (n < 6 → v < 32 ^ n) → v < 2147483648 → go gd_P0 d 188 14 [.ref 1231, .int (Int32.ofNat v), .int (Int32.ofNat n), .int (Int32.ofNat j)] [] (mm h q o) = some (.inl (some (.int (Int32.ofNat (if n + (lts (xb X) m j).length ≤ 6 then wf (lts (xb X) m j) v n else 0)))), mm h q o) := by
  obtain ⟨hm, ⟨h3, h5⟩, hB, hX⟩ := hb
  have hn : xn X ≤ 600 := hX.1
  have fin : ∀ j v n, n < 1000 → go gd_P0 d 188 67 [.ref 1231, .int (Int32.ofNat v), .int (Int32.ofNat n), .int (Int32.ofNat j)] [] (mm h q o) = some (.inl (some (.int (Int32.ofNat (if n ≤ 6 then v else 0)))), mm h q o) := by
    intro j v n hn
    rw [s188_67]
    by_cases c : n ≤ 6
    · rw [if_pos (by rw [show (6 : Int32) = Int32.ofNat 6 from rfl, j_le (by omega) (by omega)]; exact c), if_pos c, s188_78]
    · rw [if_neg (by rw [show (6 : Int32) = Int32.ofNat 6 from rfl, j_le (by omega) (by omega)]; exact c), if_neg c, s188_78]
      rfl
  intro m
  induction m with
  | zero =>
    intro j v n hj hnj hv hv2
    rw [s188_14, gT_mm, if_pos hm.t, mm_j h q o (by omega) (by omega), h3, if_pos (by rw [j_le (by omega) (by omega)]; omega), fin j v n (by omega), lts]
    rfl
  | succ m ih =>
    intro j v n hj hnj hv hv2
    have hx := hX.2 j (by omega)
    rw [s188_14, gT_mm, gR_mm, gL_mm, if_pos hm.t, mm_j h q o (by omega) (by omega), h3, m_r9 hm, m_t9 hm, m_l9 hm, mm_b h q o (by omega), if_neg (by rw [j_le (by omega) (by omega)]; omega), if_pos hm.t, if_pos ⟨rfl, by rw [j_ix (by omega) (by omega)]; exact trivial⟩, j_cl (by omega), hB j (by omega), m189 (by omega) (by omega), gc_v, s188_31, lts]
    by_cases z : sml (xb X j) = true
    · have hs : 97 ≤ xb X j ∧ xb X j ≤ 122 := of_decide_eq_true z
      rw [if_pos z, if_neg (show ¬ (1 : Int32) = 0 by decide), if_pos z, List.length_cons, wf]
      by_cases c : n < 6
      · have hp := pw32 n c
        have hv := hv c
        rw [if_neg (by rw [show (6 : Int32) = Int32.ofNat 6 from rfl, j_le (by omega) (by omega)]; omega), gT_mm, gR_mm, gL_mm, if_pos hm.t, m_r9 hm, m_t9 hm, m_l9 hm, mm_b h q o (by omega), if_pos ⟨rfl, by rw [j_ix (by omega) (by omega)]; exact trivial⟩, j_cl (by omega), hB j (by omega), show (96 : Int32) = Int32.ofNat 96 from rfl, j_sub (by omega), sh5 (by omega) (by omega), s188_57, j_s, j_s, ih (j + 1) (v * 32 + (xb X j - 96)) (n + 1) (by omega) (by omega) (fun _ => by rw [Nat.pow_succ]; omega) (by omega), if_pos c, show n + 1 + (lts (xb X) m (j + 1)).length = n + ((lts (xb X) m (j + 1)).length + 1) by omega]
      · rw [if_pos (by rw [show (6 : Int32) = Int32.ofNat 6 from rfl, j_le (by omega) (by omega)]; omega), s188_57, j_s, j_s, show (0 : Int32) = Int32.ofNat 0 from rfl, ih (j + 1) 0 (n + 1) (by omega) (by omega) (fun _ => Nat.pow_pos (by decide)) (by omega), if_neg c, show n + 1 + (lts (xb X) m (j + 1)).length = n + ((lts (xb X) m (j + 1)).length + 1) by omega]
    · rw [if_neg z, if_pos rfl, if_neg z, fin j v n (by omega)]
      rfl
theorem m188 {h : gd_H} {X : gdX} (hb : MB h X) {d : Nat} (hd : 2 ≤ d) {p : Nat} (hp : p ≤ xn X) (o : Nat) : run gd_P0 d 188 [.ref 1231] (mm h p o) = some (.inl (some (.int (Int32.ofNat (wv (ltr X (sk X p)))))), mm h (sk X p) o) := by
  obtain ⟨d, rfl⟩ : ∃ e, d = e + 1 := ⟨d - 1, by omega⟩
  have g2 := sk_le hp
  rw [r188, s188_0, gT_mm, if_pos hb.1.t, m187 hb (by omega) hp, gc_v, s188_4, gT_mm, if_pos hb.1.t, mm_4]
  have e := lp188 hb (d := d) (by omega) o (sk X p) (xn X - sk X p) (sk X p) 0 0 (by omega) (by omega) (fun _ => by decide) (by omega)
  have e : go gd_P0 d 188 14 [.ref 1231, .int 0, .int 0, .int (Int32.ofNat (sk X p))] [] (mm h (sk X p) o) = some (.inl (some (.int (Int32.ofNat (if 0 + (ltr X (sk X p)).length ≤ 6 then wf (ltr X (sk X p)) 0 0 else 0)))), mm h (sk X p) o) := e
  rw [e, Nat.zero_add]
  unfold wv
  by_cases c : (ltr X (sk X p)).length ≤ 6
  · rw [if_pos c, if_pos c, wf_wc _ _ _ (by omega)]
    rfl
  · rw [if_neg c, if_neg c]
theorem lp191 {h : gd_H} (hs : SK h) {d : Nat} (hd : 4 ≤ d) {j : Nat} (hj : j < 40) : ∀ (l : List Nat) (k v : Nat), (wds.getD j []).drop k = l → k ≤ 6 → v < 32 ^ k → go gd_P0 d 191 4 [.ref (8 + 2 * j), .int (Int32.ofNat v), .int (Int32.ofNat k)] [] h = some (.inl (some (.int (Int32.ofNat (l.foldl (fun v c => v * 32 + (c - 96)) v)))), h)
  | [], k, v, hl, hk, hv => by
    obtain ⟨g1, g2, g3⟩ := wds_g j hj
    have : (wds.getD j []).length ≤ k := List.drop_eq_nil_iff.mp hl
    rw [s191_4, if_pos ⟨(hs j hj).1.1, by omega⟩, sp5 hs (by omega) hj, gc_v, s191_9, if_pos (by rw [j_le (by omega) (by omega)]; exact this)]
    rfl
  | c :: l, k, v, hl, hk, hv => by
    obtain ⟨g1, g2, g3⟩ := wds_g j hj
    have hk2 : k < (wds.getD j []).length := by
      by_cases z : k < (wds.getD j []).length
      · exact z
      · rw [List.drop_eq_nil_iff.mpr (by omega)] at hl; cases hl
    have hc : (wds.getD j []).getD k 0 = c := by
      rw [List.getD_eq_getElem?_getD, List.getElem?_eq_getElem hk2]
      rw [List.drop_eq_getElem_cons hk2] at hl
      exact (List.cons.inj hl).1
    have hl2 : (wds.getD j []).drop (k + 1) = l := by
      rw [List.drop_eq_getElem_cons hk2] at hl
      exact (List.cons.inj hl).2
    have g4 := g3 k hk2
    rw [hc] at g4
    have hp := pw32 k (by omega)
    rw [s191_4, if_pos ⟨(hs j hj).1.1, by omega⟩, sp5 hs (by omega) hj, gc_v, s191_9, if_neg (by rw [j_le (by omega) (by omega)]; omega), if_pos ⟨(hs j hj).1.1, by omega⟩, sp7 hs hd hj hk2, gc_v, s191_20, hc, show (96 : Int32) = Int32.ofNat 96 from rfl, j_sub (by omega), sh5 (by omega) (by omega), j_s, lp191 hs hd hj l (k + 1) (v * 32 + (c - 96)) hl2 (by omega) (by rw [Nat.pow_succ]; omega), List.foldl_cons]
theorem m191 {h : gd_H} (hs : SK h) {d : Nat} (hd : 5 ≤ d) {j : Nat} (hj : j < 40) : run gd_P0 d 191 [.ref (8 + 2 * j)] h = some (.inl (some (.int (Int32.ofNat (wc (wds.getD j []))))), h) := by
  obtain ⟨d, rfl⟩ : ∃ e, d = e + 1 := ⟨d - 1, by omega⟩
  rw [r191, s191_0]
  exact lp191 hs (by omega) hj _ 0 0 (List.drop_zero) (by omega) (by decide)
/-- the word that stands here is that one -/
theorem wv_eq {X : gdX} {q j : Nat} (hj : j < 40) : (Int32.ofNat (wv (ltr X q)) = Int32.ofNat (wc (wds.getD j []))) = (ltr X q = wds.getD j []) := by
  obtain ⟨g1, g2, g3⟩ := wds_g j hj
  have gl : ∀ c ∈ ltr X q, 97 ≤ c ∧ c ≤ 122 := lts_sml _ _ _
  have gw : ∀ c ∈ wds.getD j [], 97 ≤ c ∧ c ≤ 122 := by
    intro c hc
    obtain ⟨k, hk, e⟩ := List.mem_iff_getElem.mp hc
    have := g3 k hk
    rw [List.getD_eq_getElem?_getD, List.getElem?_eq_getElem hk] at this
    rw [← e]; exact this
  have b1 := wc_lt 6 _ g1 gw
  have b2 : wv (ltr X q) < 32 ^ 6 := by
    unfold wv
    split
    next c => exact wc_lt 6 _ c gl
    next c => exact Nat.pow_pos (by decide)
  have h6 : (32 : Nat) ^ 6 = 1073741824 := by decide
  rw [j_eq (by omega) (by omega)]
  refine propext ⟨fun e => ?_, fun e => ?_⟩
  · unfold wv at e
    split at e
    next c => exact wc_inj 6 _ _ c gl gw e
    next c =>
      have := wc_inj 6 [] (wds.getD j []) (by decide) (fun c hc => by cases hc) gw (by rw [← e]; rfl)
      rw [← this] at g2
      exact absurd g2 (by decide)
  · unfold wv
    rw [e, if_pos g1]
theorem SK.mm {h : gd_H} (hs : SK h) (p o : Nat) : SK (mm h p o) := hs.cg fun b hb => ⟨rfl, rfl, mm_b h p o (by omega)⟩
theorem SK.mz {h h' : gd_H} (hs : SK h) (q : MZ h h') : SK h' := by
  obtain ⟨I', J', rfl, hI, -⟩ := q
  exact hs.cg fun b hb => ⟨rfl, rfl, hI b (by unfold mper; omega)⟩

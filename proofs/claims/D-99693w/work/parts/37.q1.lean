/-! ===== QUERIES, first lot ===== -/
set_option maxRecDepth 100000
theorem XI.nw {h : gd_H} {D : gdD} (hi : XI h D) (hD : DI D) : ∃ (a σ m : Nat), (∀ d, 1 ≤ d → run gd_P0 d 145 [.ref 99] h = some (.inl (some (.ref a)), h)) ∧ gR h 96 15 = σ ∧ SS h a σ ∧ XC (gI h) a σ (dE D) (-1) (dNow D) ∧ RI (dE D) m (dNow D) ∧ m ≤ 400 ∧ LWf h (eL (dE D)) ∧ EI (dE D) ∧ (101 ≤ a ∧ a + 16 ≤ 373 ∧ a % 16 = 5) ∧ ∀ k, k < eB (dE D) → gI h (σ + 1) k = eT (dE D) k := by
  obtain ⟨hg, ⟨σ, ⟨s1, s2, s3⟩, s4, s5, s6, s7⟩, ⟨w1, w2⟩, -, -, -, -, -, -, lw, sz⟩ := hi
  obtain ⟨m, hm, hr⟩ := hD.2.1 (dW D) (Nat.le_refl _)
  have b1 : 101 ≤ 101 + 16 * dW D ∧ 101 + 16 * dW D + 16 ≤ 373 ∧ (101 + 16 * dW D) % 16 = 5 := ⟨by omega, by omega, by omega⟩
  have b2 : dW D < 17 := by omega
  refine ⟨101 + 16 * dW D, σ, m, fun d hd => ?_, s1, SS.mk (hg.2.2.2.2.2.2.2.1 (dW D) b2) s4 (s6 _ (Nat.le_refl _)).1, (s6 _ (Nat.le_refl _)).2, hr, hm, lw.lf, hD.1, b1, s5⟩
  obtain ⟨d, rfl⟩ : ∃ e, d = e + 1 := ⟨d - 1, by omega⟩
  obtain ⟨a1, a2, a3⟩ := hg.2.2.2.1
  have a4 := hg.2.2.2.2.1 (dW D) (by omega)
  rw [r145, s145_0]
  simp (disch := first | omega | assumption) only [x_t2 hg, a1, a2, a3, a4, w1, gT_wI, gR_wI, gL_wI, gS_wI, gU_wI, gI_wI, gJ_wI, gI_wJ, gJ_wJ, gR_wJ, gT_wJ, gL_wJ, gS_wJ, gU_wJ, gI_wR, gJ_wR, gR_wR, gT_wR, gL_wR, gS_wR, gU_wR, wI_wI, wJ_wJ, wR_wR, j_s, j_add, j_addL, j_addR, j_mulL, j_mulR, j_cl, j_clL, j_neg, j_negL, j_nn, j_lt, j_le, j_eq, j_ltL, j_ltR, j_leL, j_leR, j_eqL, j_eqR, j_m1, j_m1L, j_m1R, j_eqLL, j_ltLL, j_leLL, n_le0, n_le1, n_lt0, n_lt1, gc_v, gc_n, ↓reduceIte, and_true, true_and, and_self, or_self, or_false, false_or, not_false_eq_true, not_true_eq_false, false_and, and_false, Nat.reduceAdd, Nat.reduceEqDiff, Nat.reduceLeDiff, Nat.reduceLT]
theorem sp53 {h : gd_H} (hg : XG h) {d : Nat} (hd : 1 ≤ d) {v lo hi : Int32} (h1 : ¬ v < lo) (h2 : ¬ hi < v) : run gd_P0 d 53 [.ref 96, .int v, .int lo, .int hi] h = some (.inl none, h) := by
  obtain ⟨d, rfl⟩ : ∃ e, d = e + 1 := ⟨d - 1, by omega⟩
  rw [r53, s53_0, if_neg h1, if_neg h2]
theorem thr_t (t : Nat) (h : gd_H) : gT (thr t h) (gS h) = t := by unfold thr; rw [gT_nw]; exact if_pos rfl
theorem gx_n {d k pc t : Nat} {L : List Value} {h : gd_H} (e : gd_P0.2.1 k pc t = some none) : gx gd_P0 d k pc L (gS h) (thr t h) = some (.inr (gS h), thr t h) := gx_o _ _ _ _ _ _ _ (by rw [thr_t]; exact e)
theorem sp53n {h : gd_H} (hg : XG h) (hz : 4 ≤ gS h) {d : Nat} (hd : 1 ≤ d) {v lo hi : Int32} (h1 : v < lo ∨ hi < v) : run gd_P0 d 53 [.ref 96, .int v, .int lo, .int hi] h = some (.inr (gS h), thr 25 h) := by
  obtain ⟨d, rfl⟩ : ∃ e, d = e + 1 := ⟨d - 1, by omega⟩
  have e : go gd_P0 d 53 11 [.ref 96, .int v, .int lo, .int hi] [] h = some (.inr (gS h), thr 25 h) := by
    rw [s53_11]
    simp (disch := first | omega | assumption) only [hg.1, x_r7 hg, x_t7 hg, x_l7 hg, gT_wI, gR_wI, gL_wI, gS_wI, gU_wI, gI_wI, gJ_wI, gI_wJ, gJ_wJ, gR_wJ, gT_wJ, gL_wJ, gS_wJ, gU_wJ, gI_wR, gJ_wR, gR_wR, gT_wR, gL_wR, gS_wR, gU_wR, wI_wI, wJ_wJ, wR_wR, j_s, j_add, j_addL, j_addR, j_mulL, j_mulR, j_cl, j_clL, j_neg, j_negL, j_nn, j_lt, j_le, j_eq, j_ltL, j_ltR, j_leL, j_leR, j_eqL, j_eqR, j_m1, j_m1L, j_m1R, j_eqLL, j_ltLL, j_leLL, n_le0, n_le1, n_lt0, n_lt1, gc_v, gc_n, ↓reduceIte, and_true, true_and, and_self, or_self, or_false, false_or, not_false_eq_true, not_true_eq_false, false_and, and_false, Nat.reduceAdd, Nat.reduceEqDiff, Nat.reduceLeDiff, Nat.reduceLT]
    rw [s53_28, if_pos hz]
    exact gx_n rfl
  rw [r53, s53_0]
  by_cases c : v < lo
  · rw [if_pos c]; exact e
  · rw [if_neg c, if_pos (h1.resolve_left c)]; exact e
theorem sp62 {h : gd_H} (hg : XG h) {d : Nat} (hd : 1 ≤ d) {v n : Int32} (h1 : ¬ v < 0) (h2 : ¬ n ≤ v) : run gd_P0 d 62 [.ref 96, .int v, .int n] h = some (.inl none, h) := by
  obtain ⟨d, rfl⟩ : ∃ e, d = e + 1 := ⟨d - 1, by omega⟩
  rw [r62, s62_0, if_neg h1, if_neg h2]
theorem sp62n {h : gd_H} (hg : XG h) (hz : 4 ≤ gS h) {d : Nat} (hd : 1 ≤ d) {v n : Int32} (h1 : v < 0 ∨ n ≤ v) : run gd_P0 d 62 [.ref 96, .int v, .int n] h = some (.inr (gS h), thr 24 h) := by
  obtain ⟨d, rfl⟩ : ∃ e, d = e + 1 := ⟨d - 1, by omega⟩
  have e : go gd_P0 d 62 10 [.ref 96, .int v, .int n] [] h = some (.inr (gS h), thr 24 h) := by
    rw [s62_10]
    simp (disch := first | omega | assumption) only [hg.1, x_r7 hg, x_t7 hg, x_l7 hg, gT_wI, gR_wI, gL_wI, gS_wI, gU_wI, gI_wI, gJ_wI, gI_wJ, gJ_wJ, gR_wJ, gT_wJ, gL_wJ, gS_wJ, gU_wJ, gI_wR, gJ_wR, gR_wR, gT_wR, gL_wR, gS_wR, gU_wR, wI_wI, wJ_wJ, wR_wR, j_s, j_add, j_addL, j_addR, j_mulL, j_mulR, j_cl, j_clL, j_neg, j_negL, j_nn, j_lt, j_le, j_eq, j_ltL, j_ltR, j_leL, j_leR, j_eqL, j_eqR, j_m1, j_m1L, j_m1R, j_eqLL, j_ltLL, j_leLL, n_le0, n_le1, n_lt0, n_lt1, gc_v, gc_n, ↓reduceIte, and_true, true_and, and_self, or_self, or_false, false_or, not_false_eq_true, not_true_eq_false, false_and, and_false, Nat.reduceAdd, Nat.reduceEqDiff, Nat.reduceLeDiff, Nat.reduceLT]
    rw [s62_27, if_pos hz]
    exact gx_n rfl
  rw [r62, s62_0]
  by_cases c : v < 0
  · rw [if_pos c]; exact e
  · rw [if_neg c, if_pos (h1.resolve_left c)]; exact e
theorem sp61 {h : gd_H} {a σ : Nat} {E : gdE} {al : Int32} {r : gdR} (hg : XG h) (hσ : gR h 96 15 = σ) (hs : SS h a σ) (hx : XC (gI h) a σ E al r) {d : Nat} (hd : 2 ≤ d) {p : Nat} (hp : p < eB E) : run gd_P0 d 61 [.ref 96, .int (Int32.ofNat p)] h = some (.inl none, h) := by
  obtain ⟨d, rfl⟩ : ∃ e, d = e + 1 := ⟨d - 1, by omega⟩
  obtain ⟨⟨hA1, hA2, hS1⟩, ⟨tA, rA8, tLw, rA9⟩, ⟨rA0, tA1, lA1⟩, ⟨rA1, tA2, lA2⟩, ⟨rA2, tA3, lA3⟩, ⟨rA3, tA4, lA4⟩, ⟨rA4, tA5, lA5⟩, ⟨rA5, tA6, lA6⟩, ⟨rA6, tA7, lA7⟩, ⟨rA7, tA8⟩, tS, ⟨rS0, tS1, lS1⟩, ⟨rS1, tS2, lS2⟩, ⟨rS2, tS3, lS3⟩, ⟨rS3, tS4, lS4⟩, ⟨rS4, tS5, lS5⟩, ⟨rS5, tS6, lS6⟩⟩ := id hs
  obtain ⟨⟨hB, hN⟩, ⟨iB, iN⟩, iG, iK, iR, cH, cF, cO, cA, cC, cW, cT, cG, cM, cL⟩ := id hx
  rw [r61, s61_0]
  have e := sp62 hg (d := d) (by omega) (v := Int32.ofNat p) (n := Int32.ofNat (eB E)) (by rw [j_neg (by omega)]; exact fun z => z) (by rw [j_le (by omega) (by omega)]; omega)
  simp (disch := first | omega | assumption) only [hg.1, hσ, tA, rA8, tLw, rA9, rA0, tA1, lA1, rA1, tA2, lA2, rA2, tA3, lA3, rA3, tA4, lA4, rA4, tA5, lA5, rA5, tA6, lA6, rA6, tA7, lA7, rA7, tA8, tS, rS0, tS1, lS1, rS1, tS2, lS2, rS2, tS3, lS3, rS3, tS4, lS4, rS4, tS5, lS5, rS5, tS6, lS6, iB, iN, iG, iK, iR, cH, cF, cO, cA, cC, cT, cG, cM, cL, e, s61_12, gT_wI, gR_wI, gL_wI, gS_wI, gU_wI, gI_wI, gJ_wI, gI_wJ, gJ_wJ, gR_wJ, gT_wJ, gL_wJ, gS_wJ, gU_wJ, gI_wR, gJ_wR, gR_wR, gT_wR, gL_wR, gS_wR, gU_wR, wI_wI, wJ_wJ, wR_wR, j_s, j_add, j_addL, j_addR, j_mulL, j_mulR, j_cl, j_clL, j_neg, j_negL, j_nn, j_lt, j_le, j_eq, j_ltL, j_ltR, j_leL, j_leR, j_eqL, j_eqR, j_m1, j_m1L, j_m1R, j_eqLL, j_ltLL, j_leLL, n_le0, n_le1, n_lt0, n_lt1, gc_v, gc_n, ↓reduceIte, and_true, true_and, and_self, or_self, or_false, false_or, not_false_eq_true, not_true_eq_false, false_and, and_false, Nat.reduceAdd, Nat.reduceEqDiff, Nat.reduceLeDiff, Nat.reduceLT]
theorem sp61n {h : gd_H} {a σ : Nat} {E : gdE} {al : Int32} {r : gdR} (hg : XG h) (hz : 4 ≤ gS h) (hσ : gR h 96 15 = σ) (hs : SS h a σ) (hx : XC (gI h) a σ E al r) {d : Nat} (hd : 2 ≤ d) {v : Int32} (hv : v < 0 ∨ Int32.ofNat (eB E) ≤ v) : run gd_P0 d 61 [.ref 96, .int v] h = some (.inr (gS h), thr 24 h) := by
  obtain ⟨d, rfl⟩ : ∃ e, d = e + 1 := ⟨d - 1, by omega⟩
  obtain ⟨⟨hA1, hA2, hS1⟩, ⟨tA, rA8, tLw, rA9⟩, ⟨rA0, tA1, lA1⟩, ⟨rA1, tA2, lA2⟩, ⟨rA2, tA3, lA3⟩, ⟨rA3, tA4, lA4⟩, ⟨rA4, tA5, lA5⟩, ⟨rA5, tA6, lA6⟩, ⟨rA6, tA7, lA7⟩, ⟨rA7, tA8⟩, tS, ⟨rS0, tS1, lS1⟩, ⟨rS1, tS2, lS2⟩, ⟨rS2, tS3, lS3⟩, ⟨rS3, tS4, lS4⟩, ⟨rS4, tS5, lS5⟩, ⟨rS5, tS6, lS6⟩⟩ := id hs
  obtain ⟨⟨hB, hN⟩, ⟨iB, iN⟩, iG, iK, iR, cH, cF, cO, cA, cC, cW, cT, cG, cM, cL⟩ := id hx
  rw [r61, s61_0]
  have e := sp62n hg hz (d := d) (by omega) hv
  simp (disch := first | omega | assumption) only [hg.1, hσ, tA, rA8, tLw, rA9, rA0, tA1, lA1, rA1, tA2, lA2, rA2, tA3, lA3, rA3, tA4, lA4, rA4, tA5, lA5, rA5, tA6, lA6, rA6, tA7, lA7, rA7, tA8, tS, rS0, tS1, lS1, rS1, tS2, lS2, rS2, tS3, lS3, rS3, tS4, lS4, rS4, tS5, lS5, rS5, tS6, lS6, iB, iN, iG, iK, iR, cH, cF, cO, cA, cC, cT, cG, cM, cL, e, gc_x, gx_n (k := 61) (pc := 9) (t := 24) rfl, gT_wI, gR_wI, gL_wI, gS_wI, gU_wI, gI_wI, gJ_wI, gI_wJ, gJ_wJ, gR_wJ, gT_wJ, gL_wJ, gS_wJ, gU_wJ, gI_wR, gJ_wR, gR_wR, gT_wR, gL_wR, gS_wR, gU_wR, wI_wI, wJ_wJ, wR_wR, j_s, j_add, j_addL, j_addR, j_mulL, j_mulR, j_cl, j_clL, j_neg, j_negL, j_nn, j_lt, j_le, j_eq, j_ltL, j_ltR, j_leL, j_leR, j_eqL, j_eqR, j_m1, j_m1L, j_m1R, j_eqLL, j_ltLL, j_leLL, n_le0, n_le1, n_lt0, n_lt1, gc_v, gc_n, ↓reduceIte, and_true, true_and, and_self, or_self, or_false, false_or, not_false_eq_true, not_true_eq_false, false_and, and_false, Nat.reduceAdd, Nat.reduceEqDiff, Nat.reduceLeDiff, Nat.reduceLT]
theorem sp64 {h : gd_H} {a σ : Nat} {E : gdE} {al : Int32} {r : gdR} (hg : XG h) (hσ : gR h 96 15 = σ) (hs : SS h a σ) (hx : XC (gI h) a σ E al r) {d : Nat} (hd : 2 ≤ d) {p : Nat} (hp : p < eN E) : run gd_P0 d 64 [.ref 96, .int (Int32.ofNat p)] h = some (.inl none, h) := by
  obtain ⟨d, rfl⟩ : ∃ e, d = e + 1 := ⟨d - 1, by omega⟩
  obtain ⟨⟨hA1, hA2, hS1⟩, ⟨tA, rA8, tLw, rA9⟩, ⟨rA0, tA1, lA1⟩, ⟨rA1, tA2, lA2⟩, ⟨rA2, tA3, lA3⟩, ⟨rA3, tA4, lA4⟩, ⟨rA4, tA5, lA5⟩, ⟨rA5, tA6, lA6⟩, ⟨rA6, tA7, lA7⟩, ⟨rA7, tA8⟩, tS, ⟨rS0, tS1, lS1⟩, ⟨rS1, tS2, lS2⟩, ⟨rS2, tS3, lS3⟩, ⟨rS3, tS4, lS4⟩, ⟨rS4, tS5, lS5⟩, ⟨rS5, tS6, lS6⟩⟩ := id hs
  obtain ⟨⟨hB, hN⟩, ⟨iB, iN⟩, iG, iK, iR, cH, cF, cO, cA, cC, cW, cT, cG, cM, cL⟩ := id hx
  rw [r64, s64_0]
  have e := sp62 hg (d := d) (by omega) (v := Int32.ofNat p) (n := Int32.ofNat (eN E)) (by rw [j_neg (by omega)]; exact fun z => z) (by rw [j_le (by omega) (by omega)]; omega)
  simp (disch := first | omega | assumption) only [hg.1, hσ, tA, rA8, tLw, rA9, rA0, tA1, lA1, rA1, tA2, lA2, rA2, tA3, lA3, rA3, tA4, lA4, rA4, tA5, lA5, rA5, tA6, lA6, rA6, tA7, lA7, rA7, tA8, tS, rS0, tS1, lS1, rS1, tS2, lS2, rS2, tS3, lS3, rS3, tS4, lS4, rS4, tS5, lS5, rS5, tS6, lS6, iB, iN, iG, iK, iR, cH, cF, cO, cA, cC, cT, cG, cM, cL, e, s64_12, gT_wI, gR_wI, gL_wI, gS_wI, gU_wI, gI_wI, gJ_wI, gI_wJ, gJ_wJ, gR_wJ, gT_wJ, gL_wJ, gS_wJ, gU_wJ, gI_wR, gJ_wR, gR_wR, gT_wR, gL_wR, gS_wR, gU_wR, wI_wI, wJ_wJ, wR_wR, j_s, j_add, j_addL, j_addR, j_mulL, j_mulR, j_cl, j_clL, j_neg, j_negL, j_nn, j_lt, j_le, j_eq, j_ltL, j_ltR, j_leL, j_leR, j_eqL, j_eqR, j_m1, j_m1L, j_m1R, j_eqLL, j_ltLL, j_leLL, n_le0, n_le1, n_lt0, n_lt1, gc_v, gc_n, ↓reduceIte, and_true, true_and, and_self, or_self, or_false, false_or, not_false_eq_true, not_true_eq_false, false_and, and_false, Nat.reduceAdd, Nat.reduceEqDiff, Nat.reduceLeDiff, Nat.reduceLT]
theorem sp64n {h : gd_H} {a σ : Nat} {E : gdE} {al : Int32} {r : gdR} (hg : XG h) (hz : 4 ≤ gS h) (hσ : gR h 96 15 = σ) (hs : SS h a σ) (hx : XC (gI h) a σ E al r) {d : Nat} (hd : 2 ≤ d) {v : Int32} (hv : v < 0 ∨ Int32.ofNat (eN E) ≤ v) : run gd_P0 d 64 [.ref 96, .int v] h = some (.inr (gS h), thr 24 h) := by
  obtain ⟨d, rfl⟩ : ∃ e, d = e + 1 := ⟨d - 1, by omega⟩
  obtain ⟨⟨hA1, hA2, hS1⟩, ⟨tA, rA8, tLw, rA9⟩, ⟨rA0, tA1, lA1⟩, ⟨rA1, tA2, lA2⟩, ⟨rA2, tA3, lA3⟩, ⟨rA3, tA4, lA4⟩, ⟨rA4, tA5, lA5⟩, ⟨rA5, tA6, lA6⟩, ⟨rA6, tA7, lA7⟩, ⟨rA7, tA8⟩, tS, ⟨rS0, tS1, lS1⟩, ⟨rS1, tS2, lS2⟩, ⟨rS2, tS3, lS3⟩, ⟨rS3, tS4, lS4⟩, ⟨rS4, tS5, lS5⟩, ⟨rS5, tS6, lS6⟩⟩ := id hs
  obtain ⟨⟨hB, hN⟩, ⟨iB, iN⟩, iG, iK, iR, cH, cF, cO, cA, cC, cW, cT, cG, cM, cL⟩ := id hx
  rw [r64, s64_0]
  have e := sp62n hg hz (d := d) (by omega) hv
  simp (disch := first | omega | assumption) only [hg.1, hσ, tA, rA8, tLw, rA9, rA0, tA1, lA1, rA1, tA2, lA2, rA2, tA3, lA3, rA3, tA4, lA4, rA4, tA5, lA5, rA5, tA6, lA6, rA6, tA7, lA7, rA7, tA8, tS, rS0, tS1, lS1, rS1, tS2, lS2, rS2, tS3, lS3, rS3, tS4, lS4, rS4, tS5, lS5, rS5, tS6, lS6, iB, iN, iG, iK, iR, cH, cF, cO, cA, cC, cT, cG, cM, cL, e, gc_x, gx_n (k := 64) (pc := 9) (t := 24) rfl, gT_wI, gR_wI, gL_wI, gS_wI, gU_wI, gI_wI, gJ_wI, gI_wJ, gJ_wJ, gR_wJ, gT_wJ, gL_wJ, gS_wJ, gU_wJ, gI_wR, gJ_wR, gR_wR, gT_wR, gL_wR, gS_wR, gU_wR, wI_wI, wJ_wJ, wR_wR, j_s, j_add, j_addL, j_addR, j_mulL, j_mulR, j_cl, j_clL, j_neg, j_negL, j_nn, j_lt, j_le, j_eq, j_ltL, j_ltR, j_leL, j_leR, j_eqL, j_eqR, j_m1, j_m1L, j_m1R, j_eqLL, j_ltLL, j_leLL, n_le0, n_le1, n_lt0, n_lt1, gc_v, gc_n, ↓reduceIte, and_true, true_and, and_self, or_self, or_false, false_or, not_false_eq_true, not_true_eq_false, false_and, and_false, Nat.reduceAdd, Nat.reduceEqDiff, Nat.reduceLeDiff, Nat.reduceLT]
/-! the model's checks, its row taken -/
theorem sp233 {h : gd_H} {d : Nat} (hd : 1 ≤ d) (v lo hi : Int32) : run gd_P0 d 233 [.int v, .int lo, .int hi] h = some (.inl (some (.int (if v < lo then 0 else if hi < v then 0 else 1))), h) := by
  obtain ⟨d, rfl⟩ : ∃ e, d = e + 1 := ⟨d - 1, by omega⟩
  rw [r233, s233_0]
  by_cases c1 : v < lo
  · simp (disch := first | omega | assumption) only [c1, s233_14, s233_15, true_or, gT_wI, gR_wI, gL_wI, gS_wI, gU_wI, gI_wI, gJ_wI, gI_wJ, gJ_wJ, gR_wJ, gT_wJ, gL_wJ, gS_wJ, gU_wJ, gI_wR, gJ_wR, gR_wR, gT_wR, gL_wR, gS_wR, gU_wR, wI_wI, wJ_wJ, wR_wR, j_s, j_add, j_addL, j_addR, j_mulL, j_mulR, j_cl, j_clL, j_neg, j_negL, j_nn, j_lt, j_le, j_eq, j_ltL, j_ltR, j_leL, j_leR, j_eqL, j_eqR, j_m1, j_m1L, j_m1R, j_eqLL, j_ltLL, j_leLL, n_le0, n_le1, n_lt0, n_lt1, gc_v, gc_n, ↓reduceIte, and_true, true_and, and_self, or_self, or_false, false_or, not_false_eq_true, not_true_eq_false, false_and, and_false, Nat.reduceAdd, Nat.reduceEqDiff, Nat.reduceLeDiff, Nat.reduceLT]
  · by_cases c2 : hi < v
    · simp (disch := first | omega | assumption) only [c1, c2, s233_14, s233_15, true_or, gT_wI, gR_wI, gL_wI, gS_wI, gU_wI, gI_wI, gJ_wI, gI_wJ, gJ_wJ, gR_wJ, gT_wJ, gL_wJ, gS_wJ, gU_wJ, gI_wR, gJ_wR, gR_wR, gT_wR, gL_wR, gS_wR, gU_wR, wI_wI, wJ_wJ, wR_wR, j_s, j_add, j_addL, j_addR, j_mulL, j_mulR, j_cl, j_clL, j_neg, j_negL, j_nn, j_lt, j_le, j_eq, j_ltL, j_ltR, j_leL, j_leR, j_eqL, j_eqR, j_m1, j_m1L, j_m1R, j_eqLL, j_ltLL, j_leLL, n_le0, n_le1, n_lt0, n_lt1, gc_v, gc_n, ↓reduceIte, and_true, true_and, and_self, or_self, or_false, false_or, not_false_eq_true, not_true_eq_false, false_and, and_false, Nat.reduceAdd, Nat.reduceEqDiff, Nat.reduceLeDiff, Nat.reduceLT]
    · simp (disch := first | omega | assumption) only [c1, c2, s233_14, s233_15, or_true, gT_wI, gR_wI, gL_wI, gS_wI, gU_wI, gI_wI, gJ_wI, gI_wJ, gJ_wJ, gR_wJ, gT_wJ, gL_wJ, gS_wJ, gU_wJ, gI_wR, gJ_wR, gR_wR, gT_wR, gL_wR, gS_wR, gU_wR, wI_wI, wJ_wJ, wR_wR, j_s, j_add, j_addL, j_addR, j_mulL, j_mulR, j_cl, j_clL, j_neg, j_negL, j_nn, j_lt, j_le, j_eq, j_ltL, j_ltR, j_leL, j_leR, j_eqL, j_eqR, j_m1, j_m1L, j_m1R, j_eqLL, j_ltLL, j_leLL, n_le0, n_le1, n_lt0, n_lt1, gc_v, gc_n, ↓reduceIte, and_true, true_and, and_self, or_self, or_false, false_or, not_false_eq_true, not_true_eq_false, false_and, and_false, Nat.reduceAdd, Nat.reduceEqDiff, Nat.reduceLeDiff, Nat.reduceLT]
theorem sp183 {h : gd_H} (hm : MS h) (hz : gI h 1231 0 = 0) {d : Nat} (hd : 1 ≤ d) (c k : Int32) : run gd_P0 d 183 [.ref 1231, .int 1, .int c, .int k] h = some (.inl (some (.int 1)), h) := by
  obtain ⟨d, rfl⟩ : ∃ e, d = e + 1 := ⟨d - 1, by omega⟩
  rw [r183, s183_0]
  simp (disch := first | omega | assumption) only [hm.t, m_r1 hm, m_t1 hm, m_l1 hm, hz, s183_26, s183_38, or_true, gT_wI, gR_wI, gL_wI, gS_wI, gU_wI, gI_wI, gJ_wI, gI_wJ, gJ_wJ, gR_wJ, gT_wJ, gL_wJ, gS_wJ, gU_wJ, gI_wR, gJ_wR, gR_wR, gT_wR, gL_wR, gS_wR, gU_wR, wI_wI, wJ_wJ, wR_wR, j_s, j_add, j_addL, j_addR, j_mulL, j_mulR, j_cl, j_clL, j_neg, j_negL, j_nn, j_lt, j_le, j_eq, j_ltL, j_ltR, j_leL, j_leR, j_eqL, j_eqR, j_m1, j_m1L, j_m1R, j_eqLL, j_ltLL, j_leLL, n_le0, n_le1, n_lt0, n_lt1, gc_v, gc_n, ↓reduceIte, and_true, true_and, and_self, or_self, or_false, false_or, not_false_eq_true, not_true_eq_false, false_and, and_false, Nat.reduceAdd, Nat.reduceEqDiff, Nat.reduceLeDiff, Nat.reduceLT]
theorem sp183n {h : gd_H} (hm : MS h) (hz : gI h 1231 0 = 0) {d : Nat} (hd : 1 ≤ d) {c : Int32} (hc : ¬ c = 0) (t : Nat) (ht : t < 26) (ht2 : 24 ≤ t) : run gd_P0 d 183 [.ref 1231, .int 0, .int c, .int (Int32.ofNat (t - 24))] h = some (.inl (some (.int 0)), mthr t c h) := by
  obtain ⟨d, rfl⟩ : ∃ e, d = e + 1 := ⟨d - 1, by omega⟩
  rw [r183, s183_0]
  unfold mthr
  simp (disch := first | omega | assumption) only [hm.t, m_r1 hm, m_t1 hm, m_l1 hm, hz, up1_nc _ _ _ (show (1231 : Nat) ≠ 1232 by decide), up1_nc _ _ _ (show (1232 : Nat) ≠ 1231 by decide), up1_eq, hc, s183_26, s183_38, true_or, gT_wI, gR_wI, gL_wI, gS_wI, gU_wI, gI_wI, gJ_wI, gI_wJ, gJ_wJ, gR_wJ, gT_wJ, gL_wJ, gS_wJ, gU_wJ, gI_wR, gJ_wR, gR_wR, gT_wR, gL_wR, gS_wR, gU_wR, wI_wI, wJ_wJ, wR_wR, j_s, j_add, j_addL, j_addR, j_mulL, j_mulR, j_cl, j_clL, j_neg, j_negL, j_nn, j_lt, j_le, j_eq, j_ltL, j_ltR, j_leL, j_leR, j_eqL, j_eqR, j_m1, j_m1L, j_m1R, j_eqLL, j_ltLL, j_leLL, n_le0, n_le1, n_lt0, n_lt1, gc_v, gc_n, ↓reduceIte, and_true, true_and, and_self, or_self, or_false, false_or, not_false_eq_true, not_true_eq_false, false_and, and_false, Nat.reduceAdd, Nat.reduceEqDiff, Nat.reduceLeDiff, Nat.reduceLT]
theorem cpy_s {α : Type} (f : Nat → Nat → α) {a b : Nat} (i : Nat) (hab : a ≠ b) : up1 (cpy f a 0 b 0 i) b i (cpy f a 0 b 0 i a i) = cpy f a 0 b 0 (i + 1) := by
  funext x j
  unfold up1 cpy
  by_cases hx : x = b
  · subst hx
    by_cases hj : j = i
    · subst hj
      rw [if_pos ⟨rfl, rfl⟩, if_neg (fun z => hab z.1), if_pos ⟨rfl, by omega, by omega⟩]
      congr 1
      omega
    · rw [if_neg (fun z => hj z.2)]
      by_cases hj2 : j < i
      · rw [if_pos ⟨rfl, by omega, by omega⟩, if_pos ⟨rfl, by omega, by omega⟩]
      · rw [if_neg (by omega), if_neg (by omega)]
  · rw [if_neg (fun z => hx z.1), if_neg (fun z => hx z.1), if_neg (fun z => hx z.1)]
theorem cpy_0 {α : Type} (f : Nat → Nat → α) (a b : Nat) : cpy f a 0 b 0 0 = f := by
  funext x j
  unfold cpy
  rw [if_neg (by omega)]
/-- a row is copied -/
theorem sp179 {h : gd_H} {a b n la lb : Nat} (ha : gT h a = 31) (hb : gT h b = 31) (hla : gL h a = la) (hlb : gL h b = lb) (h1 : n ≤ la) (h2 : n ≤ lb) (hn : n < 100000) (hab : a ≠ b) (q : Nat) {d : Nat} (hd : 1 ≤ d) : run gd_P0 d 179 [.ref q, .ref a, .ref b, .int (Int32.ofNat n)] h = some (.inl none, wI h (cpy (gI h) a 0 b 0 n)) := by
  obtain ⟨d, rfl⟩ : ∃ e, d = e + 1 := ⟨d - 1, by omega⟩
  rw [r179, s179_0]
  have L := lp_e (fun i I => go gd_P0 d 179 3 [.null, .ref a, .ref b, .int (Int32.ofNat n), .int (Int32.ofNat i)] [] (wI h I)) (fun i I => I = cpy (gI h) a 0 b 0 i) n (gI h) (cpy_0 _ _ _).symm ?_
  · obtain ⟨I, e, rfl⟩ := L
    refine ((s179_3 ..).trans (s179_3 d (wI h (gI h)) .null a b (Int32.ofNat n) 0).symm).trans (e.trans ?_)
    try dsimp only
    rw [s179_3]
    simp (disch := first | omega | assumption) only [gT_wI, gR_wI, gL_wI, gS_wI, gU_wI, gI_wI, gJ_wI, gI_wJ, gJ_wJ, gR_wJ, gT_wJ, gL_wJ, gS_wJ, gU_wJ, gI_wR, gJ_wR, gR_wR, gT_wR, gL_wR, gS_wR, gU_wR, wI_wI, wJ_wJ, wR_wR, j_s, j_add, j_addL, j_addR, j_mulL, j_mulR, j_cl, j_clL, j_neg, j_negL, j_nn, j_lt, j_le, j_eq, j_ltL, j_ltR, j_leL, j_leR, j_eqL, j_eqR, j_m1, j_m1L, j_m1R, j_eqLL, j_ltLL, j_leLL, n_le0, n_le1, n_lt0, n_lt1, gc_v, gc_n, ↓reduceIte, and_true, true_and, and_self, or_self, or_false, false_or, not_false_eq_true, not_true_eq_false, false_and, and_false, Nat.reduceAdd, Nat.reduceEqDiff, Nat.reduceLeDiff, Nat.reduceLT]
  · intro i hi I hI
    subst hI
    refine ⟨_, ?_, cpy_s (gI h) i hab⟩
    try dsimp only
    rw [s179_3]
    simp (disch := first | omega | assumption) only [ha, hb, hla, hlb, gT_wI, gR_wI, gL_wI, gS_wI, gU_wI, gI_wI, gJ_wI, gI_wJ, gJ_wJ, gR_wJ, gT_wJ, gL_wJ, gS_wJ, gU_wJ, gI_wR, gJ_wR, gR_wR, gT_wR, gL_wR, gS_wR, gU_wR, wI_wI, wJ_wJ, wR_wR, j_s, j_add, j_addL, j_addR, j_mulL, j_mulR, j_cl, j_clL, j_neg, j_negL, j_nn, j_lt, j_le, j_eq, j_ltL, j_ltR, j_leL, j_leR, j_eqL, j_eqR, j_m1, j_m1L, j_m1R, j_eqLL, j_ltLL, j_leLL, n_le0, n_le1, n_lt0, n_lt1, gc_v, gc_n, ↓reduceIte, and_true, true_and, and_self, or_self, or_false, false_or, not_false_eq_true, not_true_eq_false, false_and, and_false, Nat.reduceAdd, Nat.reduceEqDiff, Nat.reduceLeDiff, Nat.reduceLT]
/-- the row taken -/
def tk (I : Nat → Nat → Int32) : Nat → Nat → Int32 := cpy I 1250 0 1251 0 50
theorem sp211 {h : gd_H} (hm : MS h) {d : Nat} (hd : 2 ≤ d) : run gd_P0 d 211 [.ref 1231] h = some (.inl none, wI h (tk (gI h))) := by
  obtain ⟨d, rfl⟩ : ∃ e, d = e + 1 := ⟨d - 1, by omega⟩
  rw [r211, s211_0]
  have e := sp179 (m_t38 hm) (m_t39 hm) (m_l38 hm) (m_l39 hm) (n := 50) (by omega) (by omega) (by omega) (by omega) 1231 (d := d) (by omega)
  simp (disch := first | omega | assumption) only [hm.t, m_r38 hm, m_t38 hm, m_l38 hm, m_r39 hm, m_t39 hm, m_l39 hm, gT_wI, gR_wI, gL_wI, gS_wI, gU_wI, gI_wI, gJ_wI, gI_wJ, gJ_wJ, gR_wJ, gT_wJ, gL_wJ, gS_wJ, gU_wJ, gI_wR, gJ_wR, gR_wR, gT_wR, gL_wR, gS_wR, gU_wR, wI_wI, wJ_wJ, wR_wR, j_s, j_add, j_addL, j_addR, j_mulL, j_mulR, j_cl, j_clL, j_neg, j_negL, j_nn, j_lt, j_le, j_eq, j_ltL, j_ltR, j_leL, j_leR, j_eqL, j_eqR, j_m1, j_m1L, j_m1R, j_eqLL, j_ltLL, j_leLL, n_le0, n_le1, n_lt0, n_lt1, gc_v, gc_n, ↓reduceIte, and_true, true_and, and_self, or_self, or_false, false_or, not_false_eq_true, not_true_eq_false, false_and, and_false, Nat.reduceAdd, Nat.reduceEqDiff, Nat.reduceLeDiff, Nat.reduceLT]
  refine Eq.trans (congrArg (gc gd_P0 d 211 11 14 _ _) e) ?_
  rw [gc_n, s211_14]
  rfl
theorem tk_ne {I : Nat → Nat → Int32} {b : Nat} (h : b ≠ 1251) : tk I b = I b := cpy_ne _ h
theorem MI.tk {h : gd_H} {D : gdD} (hi : MI h D) : MC (tk (gI h)) (dE D) (-1) (dNow D) := by
  obtain ⟨hm, hBN, ⟨i1, i2, i3⟩, i4, i5, i6, i7, -⟩ := hi
  refine ⟨hBN, ⟨?_, ?_, ?_⟩, fun k hk => ?_, fun p hp => ?_, fun m hm => ?_, fun j hj => (cpy_in _ hj).trans (i7 j hj)⟩
  · rw [tk_ne (by omega)]; exact i1
  · rw [tk_ne (by omega)]; exact i2
  · rw [tk_ne (by omega)]; exact i3
  · rw [tk_ne (by omega)]; exact (i4 k hk).2
  · rw [tk_ne (by omega)]; exact i5 p hp
  · rw [tk_ne (by omega)]; exact i6 m hm
theorem MI.lm {h : gd_H} {D : gdD} (hi : MI h D) : LWm h (eL (dE D)) := by
  obtain ⟨hm, -, -, -, -, -, -, -, -, -, -, -, -, -, -, hl⟩ := hi
  exact LWm_of hm hl
theorem MZ.tk (h : gd_H) : MZ h (wI h (tk (gI h))) := MZ.i fun b hb => tk_ne (by unfold mper at hb; omega)
/-- nothing thrown yet -/
theorem MI.z {h : gd_H} {D : gdD} (hi : MI h D) : ∃ hz, wI h (up1 (gI h) 1231 0 0) = hz ∧ MI hz D ∧ gI hz 1231 0 = 0 ∧ MZ h hz := ⟨_, rfl, hi.mz (MZ.th 0 0 (by decide)), up1_eq (gI h) 1231 0 (0 : Int32), MZ.th 0 0 (by decide)⟩
theorem mthr_z {h : gd_H} (t : Nat) (c : Int32) : mthr t c (wI h (up1 (gI h) 1231 0 0)) = mthr t c h := by
  unfold mthr
  rw [wI_wI, gI_wI]
  congr 1
  funext x j
  unfold up1
  by_cases h1 : x = 1232 ∧ j = t - 24
  · rw [if_pos h1, if_pos h1, if_neg (by omega)]
  · rw [if_neg h1, if_neg h1]
    by_cases h2 : x = 1231 ∧ j = 0
    · rw [if_pos h2, if_pos h2]
    · rw [if_neg h2, if_neg h2, if_neg h2]
theorem sp237 {h : gd_H} {D : gdD} (hi : MI h D) (hz : gI h 1231 0 = 0) {d : Nat} (hd : 2 ≤ d) {p : Nat} (hp : p < eB (dE D)) (c : Int32) : run gd_P0 d 237 [.ref 1231, .int (Int32.ofNat p), .int c] h = some (.inl (some (.int 1)), h) := by
  obtain ⟨d, rfl⟩ : ∃ e, d = e + 1 := ⟨d - 1, by omega⟩
  obtain ⟨hm, ⟨hB, hN⟩, ⟨i1, i2, i3⟩, -⟩ := id hi
  rw [r237, s237_0]
  have e1 : Int32.ofNat (eB (dE D)) - 1 = Int32.ofNat (eB (dE D) - 1) := j_sub (n := 1) (show 1 ≤ eB (dE D) by omega)
  have e2 : ¬ eB (dE D) - 1 < p := by omega
  simp (disch := first | omega | assumption) only [hm.t, i1, i2, e1, e2, sp233 (d := d) (by omega), sp183 hm hz (d := d) (by omega), s237_12, s237_17, or_true, gT_wI, gR_wI, gL_wI, gS_wI, gU_wI, gI_wI, gJ_wI, gI_wJ, gJ_wJ, gR_wJ, gT_wJ, gL_wJ, gS_wJ, gU_wJ, gI_wR, gJ_wR, gR_wR, gT_wR, gL_wR, gS_wR, gU_wR, wI_wI, wJ_wJ, wR_wR, j_s, j_add, j_addL, j_addR, j_mulL, j_mulR, j_cl, j_clL, j_neg, j_negL, j_nn, j_lt, j_le, j_eq, j_ltL, j_ltR, j_leL, j_leR, j_eqL, j_eqR, j_m1, j_m1L, j_m1R, j_eqLL, j_ltLL, j_leLL, n_le0, n_le1, n_lt0, n_lt1, gc_v, gc_n, ↓reduceIte, and_true, true_and, and_self, or_self, or_false, false_or, not_false_eq_true, not_true_eq_false, false_and, and_false, Nat.reduceAdd, Nat.reduceEqDiff, Nat.reduceLeDiff, Nat.reduceLT]
theorem sp237n {h : gd_H} {D : gdD} (hi : MI h D) (hz : gI h 1231 0 = 0) {d : Nat} (hd : 2 ≤ d) {v : Int32} (hv : v < 0 ∨ Int32.ofNat (eB (dE D)) ≤ v) {c : Int32} (hc : ¬ c = 0) : run gd_P0 d 237 [.ref 1231, .int v, .int c] h = some (.inl (some (.int 0)), mthr 24 c h) := by
  obtain ⟨d, rfl⟩ : ∃ e, d = e + 1 := ⟨d - 1, by omega⟩
  obtain ⟨hm, ⟨hB, hN⟩, ⟨i1, i2, i3⟩, -⟩ := id hi
  have e1 : (if v < 0 then (0 : Int32) else if Int32.ofNat (eB (dE D)) - 1 < v then 0 else 1) = 0 := by
    rcases hv with h1 | h1
    · rw [if_pos h1]
    · by_cases h0 : v < 0
      · rw [if_pos h0]
      · rw [if_neg h0, if_pos]
        rw [Int32.lt_iff_toInt_lt, Int32.toInt_sub, j_ti (by omega), Int32.toInt_one, Int.bmod_eq_of_le (by omega) (by omega)]
        rw [Int32.le_iff_toInt_le, j_ti (by omega)] at h1
        omega
  rw [r237, s237_0]
  have e3 := sp183n hm hz (d := d) (by omega) hc 24 (by omega) (by omega)
  simp (disch := first | omega | assumption) only [hm.t, i1, i2, e1, sp233 (d := d) (by omega), s237_12, gT_wI, gR_wI, gL_wI, gS_wI, gU_wI, gI_wI, gJ_wI, gI_wJ, gJ_wJ, gR_wJ, gT_wJ, gL_wJ, gS_wJ, gU_wJ, gI_wR, gJ_wR, gR_wR, gT_wR, gL_wR, gS_wR, gU_wR, wI_wI, wJ_wJ, wR_wR, j_s, j_add, j_addL, j_addR, j_mulL, j_mulR, j_cl, j_clL, j_neg, j_negL, j_nn, j_lt, j_le, j_eq, j_ltL, j_ltR, j_leL, j_leR, j_eqL, j_eqR, j_m1, j_m1L, j_m1R, j_eqLL, j_ltLL, j_leLL, n_le0, n_le1, n_lt0, n_lt1, gc_v, gc_n, ↓reduceIte, and_true, true_and, and_self, or_self, or_false, false_or, not_false_eq_true, not_true_eq_false, false_and, and_false, Nat.reduceAdd, Nat.reduceEqDiff, Nat.reduceLeDiff, Nat.reduceLT]
  refine Eq.trans (congrArg (gc gd_P0 d 237 14 17 _ _) e3) ?_
  rw [gc_v, s237_17, if_pos (Or.inl rfl)]
theorem sp239 {h : gd_H} {D : gdD} (hi : MI h D) (hz : gI h 1231 0 = 0) {d : Nat} (hd : 2 ≤ d) {p : Nat} (hp : p < eN (dE D)) (c : Int32) : run gd_P0 d 239 [.ref 1231, .int (Int32.ofNat p), .int c] h = some (.inl (some (.int 1)), h) := by
  obtain ⟨d, rfl⟩ : ∃ e, d = e + 1 := ⟨d - 1, by omega⟩
  obtain ⟨hm, ⟨hB, hN⟩, ⟨i1, i2, i3⟩, -⟩ := id hi
  rw [r239, s239_0]
  have e1 : Int32.ofNat (eN (dE D)) - 1 = Int32.ofNat (eN (dE D) - 1) := j_sub (n := 1) (show 1 ≤ eN (dE D) by omega)
  have e2 : ¬ eN (dE D) - 1 < p := by omega
  simp (disch := first | omega | assumption) only [hm.t, i1, i2, e1, e2, sp233 (d := d) (by omega), sp183 hm hz (d := d) (by omega), s239_12, s239_17, or_true, gT_wI, gR_wI, gL_wI, gS_wI, gU_wI, gI_wI, gJ_wI, gI_wJ, gJ_wJ, gR_wJ, gT_wJ, gL_wJ, gS_wJ, gU_wJ, gI_wR, gJ_wR, gR_wR, gT_wR, gL_wR, gS_wR, gU_wR, wI_wI, wJ_wJ, wR_wR, j_s, j_add, j_addL, j_addR, j_mulL, j_mulR, j_cl, j_clL, j_neg, j_negL, j_nn, j_lt, j_le, j_eq, j_ltL, j_ltR, j_leL, j_leR, j_eqL, j_eqR, j_m1, j_m1L, j_m1R, j_eqLL, j_ltLL, j_leLL, n_le0, n_le1, n_lt0, n_lt1, gc_v, gc_n, ↓reduceIte, and_true, true_and, and_self, or_self, or_false, false_or, not_false_eq_true, not_true_eq_false, false_and, and_false, Nat.reduceAdd, Nat.reduceEqDiff, Nat.reduceLeDiff, Nat.reduceLT]
theorem sp239n {h : gd_H} {D : gdD} (hi : MI h D) (hz : gI h 1231 0 = 0) {d : Nat} (hd : 2 ≤ d) {v : Int32} (hv : v < 0 ∨ Int32.ofNat (eN (dE D)) ≤ v) {c : Int32} (hc : ¬ c = 0) : run gd_P0 d 239 [.ref 1231, .int v, .int c] h = some (.inl (some (.int 0)), mthr 24 c h) := by
  obtain ⟨d, rfl⟩ : ∃ e, d = e + 1 := ⟨d - 1, by omega⟩
  obtain ⟨hm, ⟨hB, hN⟩, ⟨i1, i2, i3⟩, -⟩ := id hi
  have e1 : (if v < 0 then (0 : Int32) else if Int32.ofNat (eN (dE D)) - 1 < v then 0 else 1) = 0 := by
    rcases hv with h1 | h1
    · rw [if_pos h1]
    · by_cases h0 : v < 0
      · rw [if_pos h0]
      · rw [if_neg h0, if_pos]
        rw [Int32.lt_iff_toInt_lt, Int32.toInt_sub, j_ti (by omega), Int32.toInt_one, Int.bmod_eq_of_le (by omega) (by omega)]
        rw [Int32.le_iff_toInt_le, j_ti (by omega)] at h1
        omega
  rw [r239, s239_0]
  have e3 := sp183n hm hz (d := d) (by omega) hc 24 (by omega) (by omega)
  simp (disch := first | omega | assumption) only [hm.t, i1, i2, e1, sp233 (d := d) (by omega), s239_12, gT_wI, gR_wI, gL_wI, gS_wI, gU_wI, gI_wI, gJ_wI, gI_wJ, gJ_wJ, gR_wJ, gT_wJ, gL_wJ, gS_wJ, gU_wJ, gI_wR, gJ_wR, gR_wR, gT_wR, gL_wR, gS_wR, gU_wR, wI_wI, wJ_wJ, wR_wR, j_s, j_add, j_addL, j_addR, j_mulL, j_mulR, j_cl, j_clL, j_neg, j_negL, j_nn, j_lt, j_le, j_eq, j_ltL, j_ltR, j_leL, j_leR, j_eqL, j_eqR, j_m1, j_m1L, j_m1R, j_eqLL, j_ltLL, j_leLL, n_le0, n_le1, n_lt0, n_lt1, gc_v, gc_n, ↓reduceIte, and_true, true_and, and_self, or_self, or_false, false_or, not_false_eq_true, not_true_eq_false, false_and, and_false, Nat.reduceAdd, Nat.reduceEqDiff, Nat.reduceLeDiff, Nat.reduceLT]
  refine Eq.trans (congrArg (gc gd_P0 d 239 14 17 _ _) e3) ?_
  rw [gc_v, s239_17, if_pos (Or.inl rfl)]

/-! ===== QUERIES: heads, would ===== -/
set_option maxRecDepth 100000
def vHead (D : gdD) (w : Nat) : Int32 := pBits (fun p => if w = 0 then decide (eK (dE D) p = 0) else !decide (eK (dE D) p = 0) && decide (pHi (dE D) (dNow D) p = 0)) (eN (dE D))
/-- how many are higher, and whether any is -/
theorem hi_or (E : gdE) (r : gdR) (p : Nat) (b : Int32) : ∀ n, n ≤ 1000 → ∃ c, c ≤ n ∧ fo (fun q n => if (eK E p >>> (Int32.ofNat q &&& 31)) &&& 1 = 1 ∧ r p < r q then n + 1 else n) n (0 : Int32) = Int32.ofNat c ∧ fo (fun q v => if (eK E p >>> (Int32.ofNat q &&& 31)) &&& 1 = 1 ∧ r p < r q then (0 : Int32) else v) n b = if c = 0 then b else 0
  | 0, _ => ⟨0, by omega, rfl, rfl⟩
  | n + 1, hn => by
    obtain ⟨c, h1, h2, h3⟩ := hi_or E r p b n (by omega)
    rw [fo_s, fo_s, h2, h3]
    by_cases q : (eK E p >>> (Int32.ofNat n &&& 31)) &&& 1 = 1 ∧ r p < r n
    · rw [if_pos q, if_pos q]
      exact ⟨c + 1, by omega, j_s c, by rw [if_neg (by omega)]⟩
    · rw [if_neg q, if_neg q]
      exact ⟨c, by omega, rfl, rfl⟩
theorem x89 {D : gdD} {w : Nat} (hw : w ≤ 1) : XOk 89 [.int (Int32.ofNat w)] D (.int (vHead D w)) := by
  intro d h hd hi hD
  obtain ⟨a, σ, m, h145, hσ, hs, hx, hr, hm, hl, hE, ha, hT9⟩ := hi.nw hD
  have hg := hi.1
  have hz : 4 ≤ gS h := by have := hi.2.2.2.2.2.2.2.2.2.2; omega
  obtain ⟨d, rfl⟩ : ∃ e, d = e + 1 := ⟨d - 1, by omega⟩
  obtain ⟨⟨hA1, hA2, hS1⟩, ⟨tA, rA8, tLw, rA9⟩, ⟨rA0, tA1, lA1⟩, ⟨rA1, tA2, lA2⟩, ⟨rA2, tA3, lA3⟩, ⟨rA3, tA4, lA4⟩, ⟨rA4, tA5, lA5⟩, ⟨rA5, tA6, lA6⟩, ⟨rA6, tA7, lA7⟩, ⟨rA7, tA8⟩, tS, ⟨rS0, tS1, lS1⟩, ⟨rS1, tS2, lS2⟩, ⟨rS2, tS3, lS3⟩, ⟨rS3, tS4, lS4⟩, ⟨rS4, tS5, lS5⟩, ⟨rS5, tS6, lS6⟩⟩ := id hs
  obtain ⟨⟨hB, hN⟩, ⟨iB, iN⟩, iG, iK, iR, cH, cF, cO, cA, cC, cW, cT, cG, cM, cL⟩ := id hx
  refine ⟨h, ?_, XQ.refl h⟩
  have e53 := sp53 hg (d := d) (by omega) (v := Int32.ofNat w) (lo := 0) (hi := 1) (by rw [j_neg (by omega)]; exact fun z => z) (by rw [j_ltL (by omega) (by omega)]; omega)
  have LI : ∀ (x : Int32) (p : Nat), p < 7 → go gd_P0 d 89 28 [.ref 96, .int (Int32.ofNat w), .int x, .int (Int32.ofNat p), .int 0, .int 0] [] h = go gd_P0 d 89 28 [.ref 96, .int (Int32.ofNat w), .int x, .int (Int32.ofNat p), .int (pHi (dE D) (dNow D) p), .int (Int32.ofNat (eN (dE D)))] [] h := by
    intro x p hp
    refine lp_f (fun i v => go gd_P0 d 89 28 [.ref 96, .int (Int32.ofNat w), .int x, .int (Int32.ofNat p), .int v, .int (Int32.ofNat i)] [] h) (fun q n => if (eK (dE D) p >>> (Int32.ofNat q &&& 31)) &&& 1 = 1 ∧ dNow D p < dNow D q then n + 1 else n) (eN (dE D)) 0 ?_
    intro i hi v
    try dsimp only
    rw [s89_28]
    by_cases c1 : (eK (dE D) p >>> (Int32.ofNat i &&& 31)) &&& 1 = 1
    · by_cases c2 : dNow D i ≤ dNow D p
      · simp (disch := first | omega | assumption) only [hg.1, x_r2 hg, x_t2 hg, hσ, h145, tA, rA8, tLw, rA9, rA0, tA1, lA1, rA1, tA2, lA2, rA2, tA3, lA3, rA3, tA4, lA4, rA4, tA5, lA5, rA5, tA6, lA6, rA6, tA7, lA7, rA7, tA8, tS, rS0, tS1, lS1, rS1, tS2, lS2, rS2, tS3, lS3, rS3, tS4, lS4, rS4, tS5, lS5, rS5, tS6, lS6, iB, iN, iG, iK, iR, cH, cF, cO, cA, cC, cT, cG, cM, cL, c1, c2, Int32.not_lt.mpr c2, s89_65, s89_78, s89_89, gT_wI, gR_wI, gL_wI, gS_wI, gU_wI, gI_wI, gJ_wI, gI_wJ, gJ_wJ, gR_wJ, gT_wJ, gL_wJ, gS_wJ, gU_wJ, gI_wR, gJ_wR, gR_wR, gT_wR, gL_wR, gS_wR, gU_wR, wI_wI, wJ_wJ, wR_wR, j_s, j_add, j_addL, j_addR, j_mulL, j_mulR, j_cl, j_clL, j_neg, j_negL, j_nn, j_lt, j_le, j_eq, j_ltL, j_ltR, j_leL, j_leR, j_eqL, j_eqR, j_m1, j_m1L, j_m1R, j_eqLL, j_ltLL, j_leLL, n_le0, n_le1, n_lt0, n_lt1, gc_v, gc_n, ↓reduceIte, and_true, true_and, and_self, or_self, or_false, false_or, not_false_eq_true, not_true_eq_false, false_and, and_false, Nat.reduceAdd, Nat.reduceEqDiff, Nat.reduceLeDiff, Nat.reduceLT]
      · simp (disch := first | omega | assumption) only [hg.1, x_r2 hg, x_t2 hg, hσ, h145, tA, rA8, tLw, rA9, rA0, tA1, lA1, rA1, tA2, lA2, rA2, tA3, lA3, rA3, tA4, lA4, rA4, tA5, lA5, rA5, tA6, lA6, rA6, tA7, lA7, rA7, tA8, tS, rS0, tS1, lS1, rS1, tS2, lS2, rS2, tS3, lS3, rS3, tS4, lS4, rS4, tS5, lS5, rS5, tS6, lS6, iB, iN, iG, iK, iR, cH, cF, cO, cA, cC, cT, cG, cM, cL, c1, c2, Int32.not_le.mp c2, s89_65, s89_78, s89_89, gT_wI, gR_wI, gL_wI, gS_wI, gU_wI, gI_wI, gJ_wI, gI_wJ, gJ_wJ, gR_wJ, gT_wJ, gL_wJ, gS_wJ, gU_wJ, gI_wR, gJ_wR, gR_wR, gT_wR, gL_wR, gS_wR, gU_wR, wI_wI, wJ_wJ, wR_wR, j_s, j_add, j_addL, j_addR, j_mulL, j_mulR, j_cl, j_clL, j_neg, j_negL, j_nn, j_lt, j_le, j_eq, j_ltL, j_ltR, j_leL, j_leR, j_eqL, j_eqR, j_m1, j_m1L, j_m1R, j_eqLL, j_ltLL, j_leLL, n_le0, n_le1, n_lt0, n_lt1, gc_v, gc_n, ↓reduceIte, and_true, true_and, and_self, or_self, or_false, false_or, not_false_eq_true, not_true_eq_false, false_and, and_false, Nat.reduceAdd, Nat.reduceEqDiff, Nat.reduceLeDiff, Nat.reduceLT]
    · simp (disch := first | omega | assumption) only [hg.1, x_r2 hg, x_t2 hg, hσ, h145, tA, rA8, tLw, rA9, rA0, tA1, lA1, rA1, tA2, lA2, rA2, tA3, lA3, rA3, tA4, lA4, rA4, tA5, lA5, rA5, tA6, lA6, rA6, tA7, lA7, rA7, tA8, tS, rS0, tS1, lS1, rS1, tS2, lS2, rS2, tS3, lS3, rS3, tS4, lS4, rS4, tS5, lS5, rS5, tS6, lS6, iB, iN, iG, iK, iR, cH, cF, cO, cA, cC, cT, cG, cM, cL, c1, s89_89, gT_wI, gR_wI, gL_wI, gS_wI, gU_wI, gI_wI, gJ_wI, gI_wJ, gJ_wJ, gR_wJ, gT_wJ, gL_wJ, gS_wJ, gU_wJ, gI_wR, gJ_wR, gR_wR, gT_wR, gL_wR, gS_wR, gU_wR, wI_wI, wJ_wJ, wR_wR, j_s, j_add, j_addL, j_addR, j_mulL, j_mulR, j_cl, j_clL, j_neg, j_negL, j_nn, j_lt, j_le, j_eq, j_ltL, j_ltR, j_leL, j_leR, j_eqL, j_eqR, j_m1, j_m1L, j_m1R, j_eqLL, j_ltLL, j_leLL, n_le0, n_le1, n_lt0, n_lt1, gc_v, gc_n, ↓reduceIte, and_true, true_and, and_self, or_self, or_false, false_or, not_false_eq_true, not_true_eq_false, false_and, and_false, Nat.reduceAdd, Nat.reduceEqDiff, Nat.reduceLeDiff, Nat.reduceLT]
  have L := lp_f (fun i x => go gd_P0 d 89 11 [.ref 96, .int (Int32.ofNat w), .int x, .int (Int32.ofNat i), .null, .null] [] h) (fun p b => if (if w = 0 then decide (eK (dE D) p = 0) else !decide (eK (dE D) p = 0) && decide (pHi (dE D) (dNow D) p = 0)) = true then b ||| ((1 : Int32) <<< (Int32.ofNat p &&& 31)) else b) (eN (dE D)) 0 ?_
  · rw [r89, s89_0]
    simp (disch := first | omega | assumption) only [hg.1, x_r2 hg, x_t2 hg, hσ, h145, tA, rA8, tLw, rA9, rA0, tA1, lA1, rA1, tA2, lA2, rA2, tA3, lA3, rA3, tA4, lA4, rA4, tA5, lA5, rA5, tA6, lA6, rA6, tA7, lA7, rA7, tA8, tS, rS0, tS1, lS1, rS1, tS2, lS2, rS2, tS3, lS3, rS3, tS4, lS4, rS4, tS5, lS5, rS5, tS6, lS6, iB, iN, iG, iK, iR, cH, cF, cO, cA, cC, cT, cG, cM, cL, e53, s89_7, gT_wI, gR_wI, gL_wI, gS_wI, gU_wI, gI_wI, gJ_wI, gI_wJ, gJ_wJ, gR_wJ, gT_wJ, gL_wJ, gS_wJ, gU_wJ, gI_wR, gJ_wR, gR_wR, gT_wR, gL_wR, gS_wR, gU_wR, wI_wI, wJ_wJ, wR_wR, j_s, j_add, j_addL, j_addR, j_mulL, j_mulR, j_cl, j_clL, j_neg, j_negL, j_nn, j_lt, j_le, j_eq, j_ltL, j_ltR, j_leL, j_leR, j_eqL, j_eqR, j_m1, j_m1L, j_m1R, j_eqLL, j_ltLL, j_leLL, n_le0, n_le1, n_lt0, n_lt1, gc_v, gc_n, ↓reduceIte, and_true, true_and, and_self, or_self, or_false, false_or, not_false_eq_true, not_true_eq_false, false_and, and_false, Nat.reduceAdd, Nat.reduceEqDiff, Nat.reduceLeDiff, Nat.reduceLT]
    refine Eq.trans ((s89_11 ..).trans (s89_11 ..).symm) (L.trans ?_)
    try dsimp only
    rw [s89_11]
    simp (disch := first | omega | assumption) only [hg.1, x_r2 hg, x_t2 hg, hσ, h145, tA, rA8, tLw, rA9, rA0, tA1, lA1, rA1, tA2, lA2, rA2, tA3, lA3, rA3, tA4, lA4, rA4, tA5, lA5, rA5, tA6, lA6, rA6, tA7, lA7, rA7, tA8, tS, rS0, tS1, lS1, rS1, tS2, lS2, rS2, tS3, lS3, rS3, tS4, lS4, rS4, tS5, lS5, rS5, tS6, lS6, iB, iN, iG, iK, iR, cH, cF, cO, cA, cC, cT, cG, cM, cL, gT_wI, gR_wI, gL_wI, gS_wI, gU_wI, gI_wI, gJ_wI, gI_wJ, gJ_wJ, gR_wJ, gT_wJ, gL_wJ, gS_wJ, gU_wJ, gI_wR, gJ_wR, gR_wR, gT_wR, gL_wR, gS_wR, gU_wR, wI_wI, wJ_wJ, wR_wR, j_s, j_add, j_addL, j_addR, j_mulL, j_mulR, j_cl, j_clL, j_neg, j_negL, j_nn, j_lt, j_le, j_eq, j_ltL, j_ltR, j_leL, j_leR, j_eqL, j_eqR, j_m1, j_m1L, j_m1R, j_eqLL, j_ltLL, j_leLL, n_le0, n_le1, n_lt0, n_lt1, gc_v, gc_n, ↓reduceIte, and_true, true_and, and_self, or_self, or_false, false_or, not_false_eq_true, not_true_eq_false, false_and, and_false, Nat.reduceAdd, Nat.reduceEqDiff, Nat.reduceLeDiff, Nat.reduceLT]
    rfl
  · intro p hp x
    try dsimp only
    rw [s89_11]
    simp (disch := first | omega | assumption) only [hg.1, x_r2 hg, x_t2 hg, hσ, h145, tA, rA8, tLw, rA9, rA0, tA1, lA1, rA1, tA2, lA2, rA2, tA3, lA3, rA3, tA4, lA4, rA4, tA5, lA5, rA5, tA6, lA6, rA6, tA7, lA7, rA7, tA8, tS, rS0, tS1, lS1, rS1, tS2, lS2, rS2, tS3, lS3, rS3, tS4, lS4, rS4, tS5, lS5, rS5, tS6, lS6, iB, iN, iG, iK, iR, cH, cF, cO, cA, cC, cT, cG, cM, cL, LI, gT_wI, gR_wI, gL_wI, gS_wI, gU_wI, gI_wI, gJ_wI, gI_wJ, gJ_wJ, gR_wJ, gT_wJ, gL_wJ, gS_wJ, gU_wJ, gI_wR, gJ_wR, gR_wR, gT_wR, gL_wR, gS_wR, gU_wR, wI_wI, wJ_wJ, wR_wR, j_s, j_add, j_addL, j_addR, j_mulL, j_mulR, j_cl, j_clL, j_neg, j_negL, j_nn, j_lt, j_le, j_eq, j_ltL, j_ltR, j_leL, j_leR, j_eqL, j_eqR, j_m1, j_m1L, j_m1R, j_eqLL, j_ltLL, j_leLL, n_le0, n_le1, n_lt0, n_lt1, gc_v, gc_n, ↓reduceIte, and_true, true_and, and_self, or_self, or_false, false_or, not_false_eq_true, not_true_eq_false, false_and, and_false, Nat.reduceAdd, Nat.reduceEqDiff, Nat.reduceLeDiff, Nat.reduceLT]
    rw [s89_28]
    by_cases c1 : eK (dE D) p = 0
    · rcases c02 hw with rfl | rfl
      all_goals simp (disch := first | omega | assumption) only [hg.1, x_r2 hg, x_t2 hg, hσ, h145, tA, rA8, tLw, rA9, rA0, tA1, lA1, rA1, tA2, lA2, rA2, tA3, lA3, rA3, tA4, lA4, rA4, tA5, lA5, rA5, tA6, lA6, rA6, tA7, lA7, rA7, tA8, tS, rS0, tS1, lS1, rS1, tS2, lS2, rS2, tS3, lS3, rS3, tS4, lS4, rS4, tS5, lS5, rS5, tS6, lS6, iB, iN, iG, iK, iR, cH, cF, cO, cA, cC, cT, cG, cM, cL, c1, s89_131, s89_137, decide_true, decide_false, Bool.not_true, Bool.not_false, Bool.false_eq_true, Bool.true_and, Bool.false_and, Bool.and_true, Bool.and_false, Int32.or_zero, gT_wI, gR_wI, gL_wI, gS_wI, gU_wI, gI_wI, gJ_wI, gI_wJ, gJ_wJ, gR_wJ, gT_wJ, gL_wJ, gS_wJ, gU_wJ, gI_wR, gJ_wR, gR_wR, gT_wR, gL_wR, gS_wR, gU_wR, wI_wI, wJ_wJ, wR_wR, j_s, j_add, j_addL, j_addR, j_mulL, j_mulR, j_cl, j_clL, j_neg, j_negL, j_nn, j_lt, j_le, j_eq, j_ltL, j_ltR, j_leL, j_leR, j_eqL, j_eqR, j_m1, j_m1L, j_m1R, j_eqLL, j_ltLL, j_leLL, n_le0, n_le1, n_lt0, n_lt1, gc_v, gc_n, ↓reduceIte, and_true, true_and, and_self, or_self, or_false, false_or, not_false_eq_true, not_true_eq_false, false_and, and_false, Nat.reduceAdd, Nat.reduceEqDiff, Nat.reduceLeDiff, Nat.reduceLT]
    · by_cases c2 : pHi (dE D) (dNow D) p = 0
      · rcases c02 hw with rfl | rfl
        all_goals simp (disch := first | omega | assumption) only [hg.1, x_r2 hg, x_t2 hg, hσ, h145, tA, rA8, tLw, rA9, rA0, tA1, lA1, rA1, tA2, lA2, rA2, tA3, lA3, rA3, tA4, lA4, rA4, tA5, lA5, rA5, tA6, lA6, rA6, tA7, lA7, rA7, tA8, tS, rS0, tS1, lS1, rS1, tS2, lS2, rS2, tS3, lS3, rS3, tS4, lS4, rS4, tS5, lS5, rS5, tS6, lS6, iB, iN, iG, iK, iR, cH, cF, cO, cA, cC, cT, cG, cM, cL, c1, c2, s89_131, s89_137, decide_true, decide_false, Bool.not_true, Bool.not_false, Bool.false_eq_true, Bool.true_and, Bool.false_and, Bool.and_true, Bool.and_false, Int32.or_zero, gT_wI, gR_wI, gL_wI, gS_wI, gU_wI, gI_wI, gJ_wI, gI_wJ, gJ_wJ, gR_wJ, gT_wJ, gL_wJ, gS_wJ, gU_wJ, gI_wR, gJ_wR, gR_wR, gT_wR, gL_wR, gS_wR, gU_wR, wI_wI, wJ_wJ, wR_wR, j_s, j_add, j_addL, j_addR, j_mulL, j_mulR, j_cl, j_clL, j_neg, j_negL, j_nn, j_lt, j_le, j_eq, j_ltL, j_ltR, j_leL, j_leR, j_eqL, j_eqR, j_m1, j_m1L, j_m1R, j_eqLL, j_ltLL, j_leLL, n_le0, n_le1, n_lt0, n_lt1, gc_v, gc_n, ↓reduceIte, and_true, true_and, and_self, or_self, or_false, false_or, not_false_eq_true, not_true_eq_false, false_and, and_false, Nat.reduceAdd, Nat.reduceEqDiff, Nat.reduceLeDiff, Nat.reduceLT]
      · rcases c02 hw with rfl | rfl
        all_goals simp (disch := first | omega | assumption) only [hg.1, x_r2 hg, x_t2 hg, hσ, h145, tA, rA8, tLw, rA9, rA0, tA1, lA1, rA1, tA2, lA2, rA2, tA3, lA3, rA3, tA4, lA4, rA4, tA5, lA5, rA5, tA6, lA6, rA6, tA7, lA7, rA7, tA8, tS, rS0, tS1, lS1, rS1, tS2, lS2, rS2, tS3, lS3, rS3, tS4, lS4, rS4, tS5, lS5, rS5, tS6, lS6, iB, iN, iG, iK, iR, cH, cF, cO, cA, cC, cT, cG, cM, cL, c1, c2, s89_131, s89_137, decide_true, decide_false, Bool.not_true, Bool.not_false, Bool.false_eq_true, Bool.true_and, Bool.false_and, Bool.and_true, Bool.and_false, Int32.or_zero, gT_wI, gR_wI, gL_wI, gS_wI, gU_wI, gI_wI, gJ_wI, gI_wJ, gJ_wJ, gR_wJ, gT_wJ, gL_wJ, gS_wJ, gU_wJ, gI_wR, gJ_wR, gR_wR, gT_wR, gL_wR, gS_wR, gU_wR, wI_wI, wJ_wJ, wR_wR, j_s, j_add, j_addL, j_addR, j_mulL, j_mulR, j_cl, j_clL, j_neg, j_negL, j_nn, j_lt, j_le, j_eq, j_ltL, j_ltR, j_leL, j_leR, j_eqL, j_eqR, j_m1, j_m1L, j_m1R, j_eqLL, j_ltLL, j_leLL, n_le0, n_le1, n_lt0, n_lt1, gc_v, gc_n, ↓reduceIte, and_true, true_and, and_self, or_self, or_false, false_or, not_false_eq_true, not_true_eq_false, false_and, and_false, Nat.reduceAdd, Nat.reduceEqDiff, Nat.reduceLeDiff, Nat.reduceLT]
theorem x89a {D : gdD} {v : Int32} (hv : v < 0 ∨ 1 < v) : XNo 89 [.int v] D 25 := by
  intro d h hd hi hD
  obtain ⟨a, σ, m, h145, hσ, hs, hx, hr, hm, hl, hE, ha, hT9⟩ := hi.nw hD
  have hg := hi.1
  have hz : 4 ≤ gS h := by have := hi.2.2.2.2.2.2.2.2.2.2; omega
  obtain ⟨d, rfl⟩ : ∃ e, d = e + 1 := ⟨d - 1, by omega⟩
  obtain ⟨⟨hA1, hA2, hS1⟩, ⟨tA, rA8, tLw, rA9⟩, ⟨rA0, tA1, lA1⟩, ⟨rA1, tA2, lA2⟩, ⟨rA2, tA3, lA3⟩, ⟨rA3, tA4, lA4⟩, ⟨rA4, tA5, lA5⟩, ⟨rA5, tA6, lA6⟩, ⟨rA6, tA7, lA7⟩, ⟨rA7, tA8⟩, tS, ⟨rS0, tS1, lS1⟩, ⟨rS1, tS2, lS2⟩, ⟨rS2, tS3, lS3⟩, ⟨rS3, tS4, lS4⟩, ⟨rS4, tS5, lS5⟩, ⟨rS5, tS6, lS6⟩⟩ := id hs
  obtain ⟨⟨hB, hN⟩, ⟨iB, iN⟩, iG, iK, iR, cH, cF, cO, cA, cC, cW, cT, cG, cM, cL⟩ := id hx
  rw [r89, s89_0]
  simp (disch := first | omega | assumption) only [hg.1, x_r2 hg, x_t2 hg, hσ, h145, tA, rA8, tLw, rA9, rA0, tA1, lA1, rA1, tA2, lA2, rA2, tA3, lA3, rA3, tA4, lA4, rA4, tA5, lA5, rA5, tA6, lA6, rA6, tA7, lA7, rA7, tA8, tS, rS0, tS1, lS1, rS1, tS2, lS2, rS2, tS3, lS3, rS3, tS4, lS4, rS4, tS5, lS5, rS5, tS6, lS6, iB, iN, iG, iK, iR, cH, cF, cO, cA, cC, cT, cG, cM, cL, sp53n hg hz (d := d) (by omega) hv, gc_x, gx_n (k := 89) (pc := 4) (t := 25) rfl, gT_wI, gR_wI, gL_wI, gS_wI, gU_wI, gI_wI, gJ_wI, gI_wJ, gJ_wJ, gR_wJ, gT_wJ, gL_wJ, gS_wJ, gU_wJ, gI_wR, gJ_wR, gR_wR, gT_wR, gL_wR, gS_wR, gU_wR, wI_wI, wJ_wJ, wR_wR, j_s, j_add, j_addL, j_addR, j_mulL, j_mulR, j_cl, j_clL, j_neg, j_negL, j_nn, j_lt, j_le, j_eq, j_ltL, j_ltR, j_leL, j_leR, j_eqL, j_eqR, j_m1, j_m1L, j_m1R, j_eqLL, j_ltLL, j_leLL, n_le0, n_le1, n_lt0, n_lt1, gc_v, gc_n, ↓reduceIte, and_true, true_and, and_self, or_self, or_false, false_or, not_false_eq_true, not_true_eq_false, false_and, and_false, Nat.reduceAdd, Nat.reduceEqDiff, Nat.reduceLeDiff, Nat.reduceLT]
theorem m271 {D : gdD} {w : Nat} (hw : w ≤ 1) : MOk 271 [.int (Int32.ofNat w)] D (.int (vHead D w)) := by
  intro d h hd hi hD
  obtain ⟨d, rfl⟩ : ∃ e, d = e + 1 := ⟨d - 1, by omega⟩
  obtain ⟨hz, ez, hiz, z0, qz⟩ := hi.z
  have hm := hi.1
  have hmz := hiz.1
  refine ⟨hz, ?_, qz, z0⟩
  have e183 := sp183 hmz z0 (d := d) (by omega) 1 1
  obtain ⟨-, ⟨hB, hN⟩, ⟨iB, iN, iA⟩, iT, iK, iR, i7, -⟩ := id hiz
  have LI : ∀ (x b : Int32) (p : Nat), p < 7 → ∃ c, c ≤ 7 ∧ pHi (dE D) (dNow D) p = Int32.ofNat c ∧ go gd_P0 d 271 53 [.ref 1231, .int (Int32.ofNat w), .int x, .int (Int32.ofNat p), .int b, .int 0] [] hz = go gd_P0 d 271 53 [.ref 1231, .int (Int32.ofNat w), .int x, .int (Int32.ofNat p), .int (if c = 0 then b else 0), .int (Int32.ofNat (eN (dE D)))] [] hz := by
    intro x b p hp
    obtain ⟨c, k1, k2, k3⟩ := hi_or (dE D) (dNow D) p b (eN (dE D)) (by omega)
    refine ⟨c, by omega, k2, ?_⟩
    rw [← k3]
    refine lp_f (fun i v => go gd_P0 d 271 53 [.ref 1231, .int (Int32.ofNat w), .int x, .int (Int32.ofNat p), .int v, .int (Int32.ofNat i)] [] hz) (fun q v => if (eK (dE D) p >>> (Int32.ofNat q &&& 31)) &&& 1 = 1 ∧ dNow D p < dNow D q then (0 : Int32) else v) (eN (dE D)) b ?_
    intro i hi v
    try dsimp only
    rw [s271_53]
    by_cases c1 : (eK (dE D) p >>> (Int32.ofNat i &&& 31)) &&& 1 = 1
    · by_cases c2 : dNow D i ≤ dNow D p
      · simp (disch := first | omega | assumption) only [hmz.t, m_r16 hmz, m_t16 hmz, m_l16 hmz, m_r38 hmz, m_t38 hmz, m_l38 hmz, iB, iN, iA, iK, iR, i7, c1, c2, Int32.not_lt.mpr c2, s271_100, Nat.zero_add, gT_wI, gR_wI, gL_wI, gS_wI, gU_wI, gI_wI, gJ_wI, gI_wJ, gJ_wJ, gR_wJ, gT_wJ, gL_wJ, gS_wJ, gU_wJ, gI_wR, gJ_wR, gR_wR, gT_wR, gL_wR, gS_wR, gU_wR, wI_wI, wJ_wJ, wR_wR, j_s, j_add, j_addL, j_addR, j_mulL, j_mulR, j_cl, j_clL, j_neg, j_negL, j_nn, j_lt, j_le, j_eq, j_ltL, j_ltR, j_leL, j_leR, j_eqL, j_eqR, j_m1, j_m1L, j_m1R, j_eqLL, j_ltLL, j_leLL, n_le0, n_le1, n_lt0, n_lt1, gc_v, gc_n, ↓reduceIte, and_true, true_and, and_self, or_self, or_false, false_or, not_false_eq_true, not_true_eq_false, false_and, and_false, Nat.reduceAdd, Nat.reduceEqDiff, Nat.reduceLeDiff, Nat.reduceLT]
      · simp (disch := first | omega | assumption) only [hmz.t, m_r16 hmz, m_t16 hmz, m_l16 hmz, m_r38 hmz, m_t38 hmz, m_l38 hmz, iB, iN, iA, iK, iR, i7, c1, c2, Int32.not_le.mp c2, s271_100, Nat.zero_add, gT_wI, gR_wI, gL_wI, gS_wI, gU_wI, gI_wI, gJ_wI, gI_wJ, gJ_wJ, gR_wJ, gT_wJ, gL_wJ, gS_wJ, gU_wJ, gI_wR, gJ_wR, gR_wR, gT_wR, gL_wR, gS_wR, gU_wR, wI_wI, wJ_wJ, wR_wR, j_s, j_add, j_addL, j_addR, j_mulL, j_mulR, j_cl, j_clL, j_neg, j_negL, j_nn, j_lt, j_le, j_eq, j_ltL, j_ltR, j_leL, j_leR, j_eqL, j_eqR, j_m1, j_m1L, j_m1R, j_eqLL, j_ltLL, j_leLL, n_le0, n_le1, n_lt0, n_lt1, gc_v, gc_n, ↓reduceIte, and_true, true_and, and_self, or_self, or_false, false_or, not_false_eq_true, not_true_eq_false, false_and, and_false, Nat.reduceAdd, Nat.reduceEqDiff, Nat.reduceLeDiff, Nat.reduceLT]
    · simp (disch := first | omega | assumption) only [hmz.t, m_r16 hmz, m_t16 hmz, m_l16 hmz, m_r38 hmz, m_t38 hmz, m_l38 hmz, iB, iN, iA, iK, iR, i7, c1, s271_100, gT_wI, gR_wI, gL_wI, gS_wI, gU_wI, gI_wI, gJ_wI, gI_wJ, gJ_wJ, gR_wJ, gT_wJ, gL_wJ, gS_wJ, gU_wJ, gI_wR, gJ_wR, gR_wR, gT_wR, gL_wR, gS_wR, gU_wR, wI_wI, wJ_wJ, wR_wR, j_s, j_add, j_addL, j_addR, j_mulL, j_mulR, j_cl, j_clL, j_neg, j_negL, j_nn, j_lt, j_le, j_eq, j_ltL, j_ltR, j_leL, j_leR, j_eqL, j_eqR, j_m1, j_m1L, j_m1R, j_eqLL, j_ltLL, j_leLL, n_le0, n_le1, n_lt0, n_lt1, gc_v, gc_n, ↓reduceIte, and_true, true_and, and_self, or_self, or_false, false_or, not_false_eq_true, not_true_eq_false, false_and, and_false, Nat.reduceAdd, Nat.reduceEqDiff, Nat.reduceLeDiff, Nat.reduceLT]
  have L := lp_f (fun i x => go gd_P0 d 271 26 [.ref 1231, .int (Int32.ofNat w), .int x, .int (Int32.ofNat i), .null, .null] [] hz) (fun p b => if (if w = 0 then decide (eK (dE D) p = 0) else !decide (eK (dE D) p = 0) && decide (pHi (dE D) (dNow D) p = 0)) = true then b ||| ((1 : Int32) <<< (Int32.ofNat p &&& 31)) else b) (eN (dE D)) 0 ?_
  · rw [r271, s271_0]
    simp only [hm.t, ez, ↓reduceIte]
    simp (disch := first | omega | assumption) only [sp233 (d := d) (by omega), hmz.t, e183, s271_12, s271_17, i10, gT_wI, gR_wI, gL_wI, gS_wI, gU_wI, gI_wI, gJ_wI, gI_wJ, gJ_wJ, gR_wJ, gT_wJ, gL_wJ, gS_wJ, gU_wJ, gI_wR, gJ_wR, gR_wR, gT_wR, gL_wR, gS_wR, gU_wR, wI_wI, wJ_wJ, wR_wR, j_s, j_add, j_addL, j_addR, j_mulL, j_mulR, j_cl, j_clL, j_neg, j_negL, j_nn, j_lt, j_le, j_eq, j_ltL, j_ltR, j_leL, j_leR, j_eqL, j_eqR, j_m1, j_m1L, j_m1R, j_eqLL, j_ltLL, j_leLL, n_le0, n_le1, n_lt0, n_lt1, gc_v, gc_n, ↓reduceIte, and_true, true_and, and_self, or_self, or_false, false_or, not_false_eq_true, not_true_eq_false, false_and, and_false, Nat.reduceAdd, Nat.reduceEqDiff, Nat.reduceLeDiff, Nat.reduceLT]
    refine Eq.trans ((s271_26 ..).trans (s271_26 ..).symm) (L.trans ?_)
    try dsimp only
    rw [s271_26]
    simp (disch := first | omega | assumption) only [hmz.t, m_r16 hmz, m_t16 hmz, m_l16 hmz, m_r38 hmz, m_t38 hmz, m_l38 hmz, iB, iN, iA, iK, iR, i7, gT_wI, gR_wI, gL_wI, gS_wI, gU_wI, gI_wI, gJ_wI, gI_wJ, gJ_wJ, gR_wJ, gT_wJ, gL_wJ, gS_wJ, gU_wJ, gI_wR, gJ_wR, gR_wR, gT_wR, gL_wR, gS_wR, gU_wR, wI_wI, wJ_wJ, wR_wR, j_s, j_add, j_addL, j_addR, j_mulL, j_mulR, j_cl, j_clL, j_neg, j_negL, j_nn, j_lt, j_le, j_eq, j_ltL, j_ltR, j_leL, j_leR, j_eqL, j_eqR, j_m1, j_m1L, j_m1R, j_eqLL, j_ltLL, j_leLL, n_le0, n_le1, n_lt0, n_lt1, gc_v, gc_n, ↓reduceIte, and_true, true_and, and_self, or_self, or_false, false_or, not_false_eq_true, not_true_eq_false, false_and, and_false, Nat.reduceAdd, Nat.reduceEqDiff, Nat.reduceLeDiff, Nat.reduceLT]
    rfl
  · intro p hp x
    try dsimp only
    rw [s271_26]
    by_cases c1 : eK (dE D) p = 0
    · obtain ⟨c, k1, k2, k3⟩ := LI x 0 p (by omega)
      simp (disch := first | omega | assumption) only [hmz.t, m_r16 hmz, m_t16 hmz, m_l16 hmz, m_r38 hmz, m_t38 hmz, m_l38 hmz, iB, iN, iA, iK, iR, i7, c1, s271_48, k3, gT_wI, gR_wI, gL_wI, gS_wI, gU_wI, gI_wI, gJ_wI, gI_wJ, gJ_wJ, gR_wJ, gT_wJ, gL_wJ, gS_wJ, gU_wJ, gI_wR, gJ_wR, gR_wR, gT_wR, gL_wR, gS_wR, gU_wR, wI_wI, wJ_wJ, wR_wR, j_s, j_add, j_addL, j_addR, j_mulL, j_mulR, j_cl, j_clL, j_neg, j_negL, j_nn, j_lt, j_le, j_eq, j_ltL, j_ltR, j_leL, j_leR, j_eqL, j_eqR, j_m1, j_m1L, j_m1R, j_eqLL, j_ltLL, j_leLL, n_le0, n_le1, n_lt0, n_lt1, gc_v, gc_n, ↓reduceIte, and_true, true_and, and_self, or_self, or_false, false_or, not_false_eq_true, not_true_eq_false, false_and, and_false, Nat.reduceAdd, Nat.reduceEqDiff, Nat.reduceLeDiff, Nat.reduceLT]
      rw [s271_53]
      rcases c02 hw with rfl | rfl
      all_goals simp (disch := first | omega | assumption) only [hmz.t, m_r16 hmz, m_t16 hmz, m_l16 hmz, m_r38 hmz, m_t38 hmz, m_l38 hmz, iB, iN, iA, iK, iR, i7, c1, ite_self, s271_128, s271_134, s271_135, decide_true, decide_false, Bool.not_true, Bool.not_false, Bool.false_eq_true, Bool.true_and, Bool.false_and, Bool.and_true, Bool.and_false, Int32.or_zero, gT_wI, gR_wI, gL_wI, gS_wI, gU_wI, gI_wI, gJ_wI, gI_wJ, gJ_wJ, gR_wJ, gT_wJ, gL_wJ, gS_wJ, gU_wJ, gI_wR, gJ_wR, gR_wR, gT_wR, gL_wR, gS_wR, gU_wR, wI_wI, wJ_wJ, wR_wR, j_s, j_add, j_addL, j_addR, j_mulL, j_mulR, j_cl, j_clL, j_neg, j_negL, j_nn, j_lt, j_le, j_eq, j_ltL, j_ltR, j_leL, j_leR, j_eqL, j_eqR, j_m1, j_m1L, j_m1R, j_eqLL, j_ltLL, j_leLL, n_le0, n_le1, n_lt0, n_lt1, gc_v, gc_n, ↓reduceIte, and_true, true_and, and_self, or_self, or_false, false_or, not_false_eq_true, not_true_eq_false, false_and, and_false, Nat.reduceAdd, Nat.reduceEqDiff, Nat.reduceLeDiff, Nat.reduceLT]
    · obtain ⟨c, k1, k2, k3⟩ := LI x 1 p (by omega)
      simp (disch := first | omega | assumption) only [hmz.t, m_r16 hmz, m_t16 hmz, m_l16 hmz, m_r38 hmz, m_t38 hmz, m_l38 hmz, iB, iN, iA, iK, iR, i7, c1, s271_48, k3, gT_wI, gR_wI, gL_wI, gS_wI, gU_wI, gI_wI, gJ_wI, gI_wJ, gJ_wJ, gR_wJ, gT_wJ, gL_wJ, gS_wJ, gU_wJ, gI_wR, gJ_wR, gR_wR, gT_wR, gL_wR, gS_wR, gU_wR, wI_wI, wJ_wJ, wR_wR, j_s, j_add, j_addL, j_addR, j_mulL, j_mulR, j_cl, j_clL, j_neg, j_negL, j_nn, j_lt, j_le, j_eq, j_ltL, j_ltR, j_leL, j_leR, j_eqL, j_eqR, j_m1, j_m1L, j_m1R, j_eqLL, j_ltLL, j_leLL, n_le0, n_le1, n_lt0, n_lt1, gc_v, gc_n, ↓reduceIte, and_true, true_and, and_self, or_self, or_false, false_or, not_false_eq_true, not_true_eq_false, false_and, and_false, Nat.reduceAdd, Nat.reduceEqDiff, Nat.reduceLeDiff, Nat.reduceLT]
      rw [s271_53]
      by_cases c2 : c = 0
      · rcases c02 hw with rfl | rfl
        all_goals simp (disch := first | omega | assumption) only [hmz.t, m_r16 hmz, m_t16 hmz, m_l16 hmz, m_r38 hmz, m_t38 hmz, m_l38 hmz, iB, iN, iA, iK, iR, i7, c1, k2, c2, i10, s271_128, s271_134, s271_135, decide_true, decide_false, Bool.not_true, Bool.not_false, Bool.false_eq_true, Bool.true_and, Bool.false_and, Bool.and_true, Bool.and_false, Int32.or_zero, gT_wI, gR_wI, gL_wI, gS_wI, gU_wI, gI_wI, gJ_wI, gI_wJ, gJ_wJ, gR_wJ, gT_wJ, gL_wJ, gS_wJ, gU_wJ, gI_wR, gJ_wR, gR_wR, gT_wR, gL_wR, gS_wR, gU_wR, wI_wI, wJ_wJ, wR_wR, j_s, j_add, j_addL, j_addR, j_mulL, j_mulR, j_cl, j_clL, j_neg, j_negL, j_nn, j_lt, j_le, j_eq, j_ltL, j_ltR, j_leL, j_leR, j_eqL, j_eqR, j_m1, j_m1L, j_m1R, j_eqLL, j_ltLL, j_leLL, n_le0, n_le1, n_lt0, n_lt1, gc_v, gc_n, ↓reduceIte, and_true, true_and, and_self, or_self, or_false, false_or, not_false_eq_true, not_true_eq_false, false_and, and_false, Nat.reduceAdd, Nat.reduceEqDiff, Nat.reduceLeDiff, Nat.reduceLT]
      · rcases c02 hw with rfl | rfl
        all_goals simp (disch := first | omega | assumption) only [hmz.t, m_r16 hmz, m_t16 hmz, m_l16 hmz, m_r38 hmz, m_t38 hmz, m_l38 hmz, iB, iN, iA, iK, iR, i7, c1, k2, c2, i10, s271_128, s271_134, s271_135, decide_true, decide_false, Bool.not_true, Bool.not_false, Bool.false_eq_true, Bool.true_and, Bool.false_and, Bool.and_true, Bool.and_false, Int32.or_zero, gT_wI, gR_wI, gL_wI, gS_wI, gU_wI, gI_wI, gJ_wI, gI_wJ, gJ_wJ, gR_wJ, gT_wJ, gL_wJ, gS_wJ, gU_wJ, gI_wR, gJ_wR, gR_wR, gT_wR, gL_wR, gS_wR, gU_wR, wI_wI, wJ_wJ, wR_wR, j_s, j_add, j_addL, j_addR, j_mulL, j_mulR, j_cl, j_clL, j_neg, j_negL, j_nn, j_lt, j_le, j_eq, j_ltL, j_ltR, j_leL, j_leR, j_eqL, j_eqR, j_m1, j_m1L, j_m1R, j_eqLL, j_ltLL, j_leLL, n_le0, n_le1, n_lt0, n_lt1, gc_v, gc_n, ↓reduceIte, and_true, true_and, and_self, or_self, or_false, false_or, not_false_eq_true, not_true_eq_false, false_and, and_false, Nat.reduceAdd, Nat.reduceEqDiff, Nat.reduceLeDiff, Nat.reduceLT]
theorem m271a {D : gdD} {v : Int32} (hv : v < 0 ∨ 1 < v) : MNo 271 [.int v] D 25 1 (.int 0) := by
  intro d h hd hi hD
  obtain ⟨d, rfl⟩ : ∃ e, d = e + 1 := ⟨d - 1, by omega⟩
  obtain ⟨hz, ez, hiz, z0, qz⟩ := hi.z
  have hm := hi.1
  have hmz := hiz.1
  have e183 := sp183n hmz z0 (d := d) (by omega) (c := 1) (by decide) 25 (by omega) (by omega)
  have c0 : (if v < 0 then (0 : Int32) else if 1 < v then 0 else 1) = 0 := by
    rcases hv with h1 | h1
    · rw [if_pos h1]
    · by_cases h2 : v < 0
      · rw [if_pos h2]
      · rw [if_neg h2, if_pos h1]
  rw [r271, s271_0]
  simp only [hm.t, ez, sp233 (d := d) (by omega), c0, gc_v, s271_12, hmz.t, ↓reduceIte]
  refine Eq.trans (congrArg (gc gd_P0 d 271 _ _ _ _) e183) ?_
  rw [gc_v, s271_17]
  subst ez
  rw [mthr_z]
  rfl
def f8 (v1 v2 v3 v4 v5 v6 v7 v8 : Int32) : Nat → Int32
  | 0 => v1
  | 1 => v2
  | 2 => v3
  | 3 => v4
  | 4 => v5
  | 5 => v6
  | 6 => v7
  | _ => v8
theorem x66 {D : gdD} {v1 v2 v3 v4 v5 v6 v7 v8 : Int32} (l1 : ¬ v1 < 0) (u1 : ¬ 9 < v1) (l2 : ¬ v2 < 1) (u2 : ¬ 999 < v2) (l3 : ¬ v3 < 0) (u3 : ¬ 6 < v3) (l4 : ¬ v4 < 0) (u4 : ¬ 9 < v4) (l5 : ¬ v5 < (-999)) (u5 : ¬ 999 < v5) (l6 : ¬ v6 < 0) (u6 : ¬ 11 < v6) (l7 : ¬ v7 < 0) (u7 : ¬ 5994 < v7) (l8 : ¬ v8 < 0) (u8 : ¬ 6 < v8) : XOk 66 [.int v1, .int v2, .int v3, .int v4, .int v5, .int v6, .int v7, .int v8] D (.int (pCl (eL (dE D) (f8 v1 v2 v3 v4 v5 v6 v7 v8)))) := by
  intro d h hd hi hD
  obtain ⟨a, σ, m, h145, hσ, hs, hx, hr, hm, hl, hE, ha, hT9⟩ := hi.nw hD
  have hg := hi.1
  have hz : 4 ≤ gS h := by have := hi.2.2.2.2.2.2.2.2.2.2; omega
  obtain ⟨d, rfl⟩ : ∃ e, d = e + 1 := ⟨d - 1, by omega⟩
  obtain ⟨⟨hA1, hA2, hS1⟩, ⟨tA, rA8, tLw, rA9⟩, ⟨rA0, tA1, lA1⟩, ⟨rA1, tA2, lA2⟩, ⟨rA2, tA3, lA3⟩, ⟨rA3, tA4, lA4⟩, ⟨rA4, tA5, lA5⟩, ⟨rA5, tA6, lA6⟩, ⟨rA6, tA7, lA7⟩, ⟨rA7, tA8⟩, tS, ⟨rS0, tS1, lS1⟩, ⟨rS1, tS2, lS2⟩, ⟨rS2, tS3, lS3⟩, ⟨rS3, tS4, lS4⟩, ⟨rS4, tS5, lS5⟩, ⟨rS5, tS6, lS6⟩⟩ := id hs
  obtain ⟨⟨hB, hN⟩, ⟨iB, iN⟩, iG, iK, iR, cH, cF, cO, cA, cC, cW, cT, cG, cM, cL⟩ := id hx
  have hl2 := hl d 1215 (sgt (gI h) 1215 (f8 v1 v2 v3 v4 v5 v6 v7 v8)) (by omega) (fun b hb => sgt_ne _ _ (by omega)) (x_t6 hg)
  rw [hE.2.2 _ (f8 v1 v2 v3 v4 v5 v6 v7 v8) (sgt_at (gI h) 1215 _)] at hl2
  refine ⟨_, ?_, XQ.i (I' := sgt (gI h) 1215 (f8 v1 v2 v3 v4 v5 v6 v7 v8)) fun b hb => by
    have z : b ≠ 1215 := by unfold scr at hb; omega
    exact sgt_ne _ _ z⟩
  rw [r66, s66_0]
  simp only [hg.1, sp53 hg (d := d) (by omega) l1 u1, sp53 hg (d := d) (by omega) l2 u2, sp53 hg (d := d) (by omega) l3 u3, sp53 hg (d := d) (by omega) l4 u4, sp53 hg (d := d) (by omega) l5 u5, sp53 hg (d := d) (by omega) l6 u6, sp53 hg (d := d) (by omega) l7 u7, sp53 hg (d := d) (by omega) l8 u8, gc_n, s66_8, s66_17, s66_25, s66_34, s66_46, s66_55, s66_65, s66_74, x_r1 hg, x_t1 hg, x_r6 hg, x_t6 hg, ↓reduceIte]
  refine Eq.trans (congrArg (gc gd_P0 d 66 _ _ _ _) hl2) ?_
  rw [gc_v, s66_154]
theorem x66a {D : gdD} {v1 v2 v3 v4 v5 v6 v7 v8 : Int32} (hv : v1 < 0 ∨ 9 < v1 ∨ v2 < 1 ∨ 999 < v2 ∨ v3 < 0 ∨ 6 < v3 ∨ v4 < 0 ∨ 9 < v4 ∨ v5 < (-999) ∨ 999 < v5 ∨ v6 < 0 ∨ 11 < v6 ∨ v7 < 0 ∨ 5994 < v7 ∨ v8 < 0 ∨ 6 < v8) : XNo 66 [.int v1, .int v2, .int v3, .int v4, .int v5, .int v6, .int v7, .int v8] D 25 := by
  intro d h hd hi hD
  obtain ⟨a, σ, m, h145, hσ, hs, hx, hr, hm, hl, hE, ha, hT9⟩ := hi.nw hD
  have hg := hi.1
  have hz : 4 ≤ gS h := by have := hi.2.2.2.2.2.2.2.2.2.2; omega
  obtain ⟨d, rfl⟩ : ∃ e, d = e + 1 := ⟨d - 1, by omega⟩
  obtain ⟨⟨hA1, hA2, hS1⟩, ⟨tA, rA8, tLw, rA9⟩, ⟨rA0, tA1, lA1⟩, ⟨rA1, tA2, lA2⟩, ⟨rA2, tA3, lA3⟩, ⟨rA3, tA4, lA4⟩, ⟨rA4, tA5, lA5⟩, ⟨rA5, tA6, lA6⟩, ⟨rA6, tA7, lA7⟩, ⟨rA7, tA8⟩, tS, ⟨rS0, tS1, lS1⟩, ⟨rS1, tS2, lS2⟩, ⟨rS2, tS3, lS3⟩, ⟨rS3, tS4, lS4⟩, ⟨rS4, tS5, lS5⟩, ⟨rS5, tS6, lS6⟩⟩ := id hs
  obtain ⟨⟨hB, hN⟩, ⟨iB, iN⟩, iG, iK, iR, cH, cF, cO, cA, cC, cW, cT, cG, cM, cL⟩ := id hx
  rw [r66, s66_0]
  by_cases c1 : v1 < 0 ∨ 9 < v1
  · simp only [hg.1, sp53n hg hz (d := d) (by omega) c1, gc_n, gc_x, gx_n (k := 66) (pc := 5) (t := 25) rfl, ↓reduceIte]
  have l1 : ¬ v1 < 0 := fun z => c1 (Or.inl z)
  have u1 : ¬ 9 < v1 := fun z => c1 (Or.inr z)
  by_cases c2 : v2 < 1 ∨ 999 < v2
  · simp only [hg.1, sp53 hg (d := d) (by omega) l1 u1, sp53n hg hz (d := d) (by omega) c2, gc_n, gc_x, s66_8, gx_n (k := 66) (pc := 14) (t := 25) rfl, ↓reduceIte]
  have l2 : ¬ v2 < 1 := fun z => c2 (Or.inl z)
  have u2 : ¬ 999 < v2 := fun z => c2 (Or.inr z)
  by_cases c3 : v3 < 0 ∨ 6 < v3
  · simp only [hg.1, sp53 hg (d := d) (by omega) l1 u1, sp53 hg (d := d) (by omega) l2 u2, sp53n hg hz (d := d) (by omega) c3, gc_n, gc_x, s66_8, s66_17, gx_n (k := 66) (pc := 22) (t := 25) rfl, ↓reduceIte]
  have l3 : ¬ v3 < 0 := fun z => c3 (Or.inl z)
  have u3 : ¬ 6 < v3 := fun z => c3 (Or.inr z)
  by_cases c4 : v4 < 0 ∨ 9 < v4
  · simp only [hg.1, sp53 hg (d := d) (by omega) l1 u1, sp53 hg (d := d) (by omega) l2 u2, sp53 hg (d := d) (by omega) l3 u3, sp53n hg hz (d := d) (by omega) c4, gc_n, gc_x, s66_8, s66_17, s66_25, gx_n (k := 66) (pc := 31) (t := 25) rfl, ↓reduceIte]
  have l4 : ¬ v4 < 0 := fun z => c4 (Or.inl z)
  have u4 : ¬ 9 < v4 := fun z => c4 (Or.inr z)
  by_cases c5 : v5 < (-999) ∨ 999 < v5
  · simp only [hg.1, sp53 hg (d := d) (by omega) l1 u1, sp53 hg (d := d) (by omega) l2 u2, sp53 hg (d := d) (by omega) l3 u3, sp53 hg (d := d) (by omega) l4 u4, sp53n hg hz (d := d) (by omega) c5, gc_n, gc_x, s66_8, s66_17, s66_25, s66_34, gx_n (k := 66) (pc := 43) (t := 25) rfl, ↓reduceIte]
  have l5 : ¬ v5 < (-999) := fun z => c5 (Or.inl z)
  have u5 : ¬ 999 < v5 := fun z => c5 (Or.inr z)
  by_cases c6 : v6 < 0 ∨ 11 < v6
  · simp only [hg.1, sp53 hg (d := d) (by omega) l1 u1, sp53 hg (d := d) (by omega) l2 u2, sp53 hg (d := d) (by omega) l3 u3, sp53 hg (d := d) (by omega) l4 u4, sp53 hg (d := d) (by omega) l5 u5, sp53n hg hz (d := d) (by omega) c6, gc_n, gc_x, s66_8, s66_17, s66_25, s66_34, s66_46, gx_n (k := 66) (pc := 52) (t := 25) rfl, ↓reduceIte]
  have l6 : ¬ v6 < 0 := fun z => c6 (Or.inl z)
  have u6 : ¬ 11 < v6 := fun z => c6 (Or.inr z)
  by_cases c7 : v7 < 0 ∨ 5994 < v7
  · simp only [hg.1, sp53 hg (d := d) (by omega) l1 u1, sp53 hg (d := d) (by omega) l2 u2, sp53 hg (d := d) (by omega) l3 u3, sp53 hg (d := d) (by omega) l4 u4, sp53 hg (d := d) (by omega) l5 u5, sp53 hg (d := d) (by omega) l6 u6, sp53n hg hz (d := d) (by omega) c7, gc_n, gc_x, s66_8, s66_17, s66_25, s66_34, s66_46, s66_55, gx_n (k := 66) (pc := 62) (t := 25) rfl, ↓reduceIte]
  have l7 : ¬ v7 < 0 := fun z => c7 (Or.inl z)
  have u7 : ¬ 5994 < v7 := fun z => c7 (Or.inr z)
  by_cases c8 : v8 < 0 ∨ 6 < v8
  · simp only [hg.1, sp53 hg (d := d) (by omega) l1 u1, sp53 hg (d := d) (by omega) l2 u2, sp53 hg (d := d) (by omega) l3 u3, sp53 hg (d := d) (by omega) l4 u4, sp53 hg (d := d) (by omega) l5 u5, sp53 hg (d := d) (by omega) l6 u6, sp53 hg (d := d) (by omega) l7 u7, sp53n hg hz (d := d) (by omega) c8, gc_n, gc_x, s66_8, s66_17, s66_25, s66_34, s66_46, s66_55, s66_65, gx_n (k := 66) (pc := 71) (t := 25) rfl, ↓reduceIte]
  have l8 : ¬ v8 < 0 := fun z => c8 (Or.inl z)
  have u8 : ¬ 6 < v8 := fun z => c8 (Or.inr z)
  exfalso
  rcases hv with z | z | z | z | z | z | z | z | z | z | z | z | z | z | z | z
  · exact l1 z
  · exact u1 z
  · exact l2 z
  · exact u2 z
  · exact l3 z
  · exact u3 z
  · exact l4 z
  · exact u4 z
  · exact l5 z
  · exact u5 z
  · exact l6 z
  · exact u6 z
  · exact l7 z
  · exact u7 z
  · exact l8 z
  · exact u8 z
theorem m241 {D : gdD} {v1 v2 v3 v4 v5 v6 v7 v8 : Int32} (l1 : ¬ v1 < 0) (u1 : ¬ 9 < v1) (l2 : ¬ v2 < 1) (u2 : ¬ 999 < v2) (l3 : ¬ v3 < 0) (u3 : ¬ 6 < v3) (l4 : ¬ v4 < 0) (u4 : ¬ 9 < v4) (l5 : ¬ v5 < (-999)) (u5 : ¬ 999 < v5) (l6 : ¬ v6 < 0) (u6 : ¬ 11 < v6) (l7 : ¬ v7 < 0) (u7 : ¬ 5994 < v7) (l8 : ¬ v8 < 0) (u8 : ¬ 6 < v8) : MOk 241 [.int v1, .int v2, .int v3, .int v4, .int v5, .int v6, .int v7, .int v8] D (.int (pCl (eL (dE D) (f8 v1 v2 v3 v4 v5 v6 v7 v8)))) := by
  intro d h hd hi hD
  obtain ⟨d, rfl⟩ : ∃ e, d = e + 1 := ⟨d - 1, by omega⟩
  obtain ⟨hz, ez, hiz, z0, qz⟩ := hi.z
  have hm := hi.1
  have hmz := hiz.1
  have e183 := sp183 hmz z0 (d := d) (by omega) 1 1
  have hE := hD.1
  obtain ⟨d, rfl⟩ : ∃ e, d = e + 1 := ⟨d - 1, by omega⟩
  obtain ⟨I', e1, e2⟩ := hiz.lm d (sgt (gI hz) 1247 (f8 v1 v2 v3 v4 v5 v6 v7 v8)) (by omega) (sgt_ne _ _ (by omega)) (sgt_ne _ _ (by omega)) (by rw [sgt_ne _ _ (by omega)])
  rw [hE.2.2 _ (f8 v1 v2 v3 v4 v5 v6 v7 v8) (sgt_at (gI hz) 1247 _)] at e1
  have fr : ∀ b, b = 1231 ∨ mper b → I' b = gI hz b := fun b hb => by
    rw [e2 b (by unfold mper at hb; omega), sgt_ne _ _ (by unfold mper at hb; omega)]
  refine ⟨wI hz I', ?_, qz.trans (MZ.i fr), by rw [gI_wI, fr _ (Or.inl rfl)]; exact z0⟩
  rw [r241, s241_0]
  simp only [hm.t, ez, sp233 (d := d + 1) (by omega), ↓reduceIte]
  simp only [hmz.t, gc_v, i10, s241_13, s241_24, s241_34, s241_45, s241_59, s241_70, s241_82, s241_93, l1, u1, l2, u2, l3, u3, l4, u4, l5, u5, l6, u6, l7, u7, l8, u8, ↓reduceIte, sp233 (d := d + 1) (by omega), s241_101, e183, s241_106]
  rw [r224, s224_0]
  simp (disch := first | omega | assumption) only [hmz.t, m_r29 hmz, m_t29 hmz, m_l29 hmz, gT_wI, gR_wI, gL_wI, gS_wI, gU_wI, gI_wI, gJ_wI, gI_wJ, gJ_wJ, gR_wJ, gT_wJ, gL_wJ, gS_wJ, gU_wJ, gI_wR, gJ_wR, gR_wR, gT_wR, gL_wR, gS_wR, gU_wR, wI_wI, wJ_wJ, wR_wR, j_s, j_add, j_addL, j_addR, j_mulL, j_mulR, j_cl, j_clL, j_neg, j_negL, j_nn, j_lt, j_le, j_eq, j_ltL, j_ltR, j_leL, j_leR, j_eqL, j_eqR, j_m1, j_m1L, j_m1R, j_eqLL, j_ltLL, j_leLL, n_le0, n_le1, n_lt0, n_lt1, gc_v, gc_n, ↓reduceIte, and_true, true_and, and_self, or_self, or_false, false_or, not_false_eq_true, not_true_eq_false, false_and, and_false, Nat.reduceAdd, Nat.reduceEqDiff, Nat.reduceLeDiff, Nat.reduceLT]
  refine Eq.trans (congrArg (fun o => gc gd_P0 (d + 1) 241 _ _ _ _ (gc gd_P0 d 224 64 67 _ _ o)) e1) ?_
  try dsimp only
  rw [gc_v, s224_67, gc_v, s241_128]
theorem m241a {D : gdD} {v1 v2 v3 v4 v5 v6 v7 v8 : Int32} (hv : v1 < 0 ∨ 9 < v1 ∨ v2 < 1 ∨ 999 < v2 ∨ v3 < 0 ∨ 6 < v3 ∨ v4 < 0 ∨ 9 < v4 ∨ v5 < (-999) ∨ 999 < v5 ∨ v6 < 0 ∨ 11 < v6 ∨ v7 < 0 ∨ 5994 < v7 ∨ v8 < 0 ∨ 6 < v8) : MNo 241 [.int v1, .int v2, .int v3, .int v4, .int v5, .int v6, .int v7, .int v8] D 25 1 (.int 0) := by
  intro d h hd hi hD
  obtain ⟨d, rfl⟩ : ∃ e, d = e + 1 := ⟨d - 1, by omega⟩
  obtain ⟨hz, ez, hiz, z0, qz⟩ := hi.z
  have hm := hi.1
  have hmz := hiz.1
  have e183 := sp183n hmz z0 (d := d) (by omega) (c := 1) (by decide) 25 (by omega) (by omega)
  have fin : go gd_P0 d 241 100 [.ref 1231, .int v1, .int v2, .int v3, .int v4, .int v5, .int v6, .int v7, .int v8] [.ref 1231] hz = some (.inl (some (.int 0)), mthr 25 1 h) := by
    rw [s241_100, s241_101]
    simp only [hmz.t, ↓reduceIte]
    refine Eq.trans (congrArg (gc gd_P0 d 241 _ _ _ _) e183) ?_
    rw [gc_v, s241_106, if_pos rfl]
    subst ez
    rw [mthr_z]
  rw [r241, s241_0]
  simp only [hm.t, ez, sp233 (d := d) (by omega), ↓reduceIte, gc_v, s241_13]
  by_cases l1 : v1 < 0
  · simp only [l1, ↓reduceIte]; exact fin
  by_cases u1 : 9 < v1
  · simp only [l1, u1, ↓reduceIte]; exact fin
  simp only [l1, u1, i10, ↓reduceIte, hmz.t, sp233 (d := d) (by omega), gc_v, s241_24]
  by_cases l2 : v2 < 1
  · simp only [l2, ↓reduceIte]; exact fin
  by_cases u2 : 999 < v2
  · simp only [l2, u2, ↓reduceIte]; exact fin
  simp only [l2, u2, i10, ↓reduceIte, hmz.t, sp233 (d := d) (by omega), gc_v, s241_34]
  by_cases l3 : v3 < 0
  · simp only [l3, ↓reduceIte]; exact fin
  by_cases u3 : 6 < v3
  · simp only [l3, u3, ↓reduceIte]; exact fin
  simp only [l3, u3, i10, ↓reduceIte, hmz.t, sp233 (d := d) (by omega), gc_v, s241_45]
  by_cases l4 : v4 < 0
  · simp only [l4, ↓reduceIte]; exact fin
  by_cases u4 : 9 < v4
  · simp only [l4, u4, ↓reduceIte]; exact fin
  simp only [l4, u4, i10, ↓reduceIte, hmz.t, sp233 (d := d) (by omega), gc_v, s241_59]
  by_cases l5 : v5 < (-999)
  · simp only [l5, ↓reduceIte]; exact fin
  by_cases u5 : 999 < v5
  · simp only [l5, u5, ↓reduceIte]; exact fin
  simp only [l5, u5, i10, ↓reduceIte, hmz.t, sp233 (d := d) (by omega), gc_v, s241_70]
  by_cases l6 : v6 < 0
  · simp only [l6, ↓reduceIte]; exact fin
  by_cases u6 : 11 < v6
  · simp only [l6, u6, ↓reduceIte]; exact fin
  simp only [l6, u6, i10, ↓reduceIte, hmz.t, sp233 (d := d) (by omega), gc_v, s241_82]
  by_cases l7 : v7 < 0
  · simp only [l7, ↓reduceIte]; exact fin
  by_cases u7 : 5994 < v7
  · simp only [l7, u7, ↓reduceIte]; exact fin
  simp only [l7, u7, i10, ↓reduceIte, hmz.t, sp233 (d := d) (by omega), gc_v, s241_93]
  by_cases l8 : v8 < 0
  · simp only [l8, ↓reduceIte]; exact fin
  by_cases u8 : 6 < v8
  · simp only [l8, u8, ↓reduceIte]; exact fin
  exfalso
  rcases hv with z | z | z | z | z | z | z | z | z | z | z | z | z | z | z | z
  · exact l1 z
  · exact u1 z
  · exact l2 z
  · exact u2 z
  · exact l3 z
  · exact u3 z
  · exact l4 z
  · exact u4 z
  · exact l5 z
  · exact u5 z
  · exact l6 z
  · exact u6 z
  · exact l7 z
  · exact u7 z
  · exact l8 z
  · exact u8 z

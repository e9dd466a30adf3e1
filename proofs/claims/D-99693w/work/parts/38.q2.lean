/-! ===== QUERIES: told, board, boy, grows, swells, lies, would, status, count, fault ===== -/
set_option maxRecDepth 100000
def vTold (D : gdD) (w : Nat) : Int32 := if w = 0 then Int32.ofNat (eB (dE D)) else if w = 1 then Int32.ofNat (eN (dE D)) else if w = 2 then dNow D 49 else if w = 3 then pb (dNow D) (eB (dE D)) else if w = 4 then dNow D 48 else if w = 5 then pThere (dE D) (dNow D) else if w = 6 then pBits (fun p => !decide (dNow D (14 + p) = -1)) (eN (dE D)) else if w = 7 then pFam (dE D) (dNow D) else if w = 8 then pRain (dE D) (-1) (dNow D) else if w = 9 then Int32.ofNat (dNb D) else if w = 10 then dRs D else pBits (fun p => !decide (dNow D p ≤ pb (dNow D) (eB (dE D)))) (eN (dE D))
theorem c012 {w : Nat} (h : w ≤ 11) : w = 0 ∨ w = 1 ∨ w = 2 ∨ w = 3 ∨ w = 4 ∨ w = 5 ∨ w = 6 ∨ w = 7 ∨ w = 8 ∨ w = 9 ∨ w = 10 ∨ w = 11 := by omega
theorem c05 {w : Nat} (h : w ≤ 4) : w = 0 ∨ w = 1 ∨ w = 2 ∨ w = 3 ∨ w = 4 := by omega
theorem c08 {w : Nat} (h : w ≤ 7) : w = 0 ∨ w = 1 ∨ w = 2 ∨ w = 3 ∨ w = 4 ∨ w = 5 ∨ w = 6 ∨ w = 7 := by omega
theorem x59 {D : gdD} {w : Nat} (hw : w ≤ 11) : XOk 59 [.int (Int32.ofNat w)] D (.int (vTold D w)) := by
  intro d h hd hi hD
  obtain ⟨a, σ, m, h145, hσ, hs, hx, hr, hm, hl, hE, ha, hT9⟩ := hi.nw hD
  have hg := hi.1
  have hz : 4 ≤ gS h := by have := hi.2.2.2.2.2.2.2.2.2.2; omega
  obtain ⟨d, rfl⟩ : ∃ e, d = e + 1 := ⟨d - 1, by omega⟩
  obtain ⟨⟨hA1, hA2, hS1⟩, ⟨tA, rA8, tLw, rA9⟩, ⟨rA0, tA1, lA1⟩, ⟨rA1, tA2, lA2⟩, ⟨rA2, tA3, lA3⟩, ⟨rA3, tA4, lA4⟩, ⟨rA4, tA5, lA5⟩, ⟨rA5, tA6, lA6⟩, ⟨rA6, tA7, lA7⟩, ⟨rA7, tA8⟩, tS, ⟨rS0, tS1, lS1⟩, ⟨rS1, tS2, lS2⟩, ⟨rS2, tS3, lS3⟩, ⟨rS3, tS4, lS4⟩, ⟨rS4, tS5, lS5⟩, ⟨rS5, tS6, lS6⟩⟩ := id hs
  obtain ⟨⟨hB, hN⟩, ⟨iB, iN⟩, iG, iK, iR, cH, cF, cO, cA, cC, cW, cT, cG, cM, cL⟩ := id hx
  refine ⟨h, ?_, XQ.refl h⟩
  have e53 := sp53 hg (d := d) (by omega) (v := Int32.ofNat w) (lo := 0) (hi := 11) (by rw [j_neg (by omega)]; exact fun z => z) (by rw [j_ltL (by omega) (by omega)]; omega)
  obtain ⟨-, -, -, -, -, -, ⟨y1, -⟩, y2, -⟩ := id hi
  have L6 : ∀ w1, go gd_P0 d 59 117 [.ref 96, w1, .ref a, .int 0, .int 0] [] h = some (.inl (some (.int (pBits (fun p => !decide (dNow D (14 + p) = -1)) (eN (dE D))))), h) := by
    intro w1
    refine ((s59_117 d h 96 w1 a 0 0).trans (s59_117 d h 96 .null a 0 0).symm).trans ?_
    refine (lp_f (fun i x => go gd_P0 d 59 117 [.ref 96, .null, .ref a, .int x, .int (Int32.ofNat i)] [] h) (fun p b => if (!decide (dNow D (14 + p) = -1)) = true then b ||| ((1 : Int32) <<< (Int32.ofNat p &&& 31)) else b) (eN (dE D)) 0 ?_).trans ?_
    · intro i hi x
      try dsimp only
      rw [s59_117]
      by_cases q : dNow D (14 + i) = -1
      · simp (disch := first | omega | assumption) only [hg.1, x_r2 hg, x_t2 hg, hσ, h145, tA, rA8, tLw, rA9, rA0, tA1, lA1, rA1, tA2, lA2, rA2, tA3, lA3, rA3, tA4, lA4, rA4, tA5, lA5, rA5, tA6, lA6, rA6, tA7, lA7, rA7, tA8, tS, rS0, tS1, lS1, rS1, tS2, lS2, rS2, tS3, lS3, rS3, tS4, lS4, rS4, tS5, lS5, rS5, tS6, lS6, iB, iN, iG, iK, iR, cH, cF, cO, cA, cC, cT, cG, cM, cL, q, s59_147, decide_true, decide_false, Bool.not_true, Bool.not_false, Bool.false_eq_true, Bool.true_and, Bool.false_and, Bool.and_true, Bool.and_false, Int32.or_zero, gT_wI, gR_wI, gL_wI, gS_wI, gU_wI, gI_wI, gJ_wI, gI_wJ, gJ_wJ, gR_wJ, gT_wJ, gL_wJ, gS_wJ, gU_wJ, gI_wR, gJ_wR, gR_wR, gT_wR, gL_wR, gS_wR, gU_wR, wI_wI, wJ_wJ, wR_wR, j_s, j_add, j_addL, j_addR, j_mulL, j_mulR, j_cl, j_clL, j_neg, j_negL, j_nn, j_lt, j_le, j_eq, j_ltL, j_ltR, j_leL, j_leR, j_eqL, j_eqR, j_m1, j_m1L, j_m1R, j_eqLL, j_ltLL, j_leLL, n_le0, n_le1, n_lt0, n_lt1, gc_v, gc_n, ↓reduceIte, and_true, true_and, and_self, or_self, or_false, false_or, not_false_eq_true, not_true_eq_false, false_and, and_false, Nat.reduceAdd, Nat.reduceEqDiff, Nat.reduceLeDiff, Nat.reduceLT]
      · simp (disch := first | omega | assumption) only [hg.1, x_r2 hg, x_t2 hg, hσ, h145, tA, rA8, tLw, rA9, rA0, tA1, lA1, rA1, tA2, lA2, rA2, tA3, lA3, rA3, tA4, lA4, rA4, tA5, lA5, rA5, tA6, lA6, rA6, tA7, lA7, rA7, tA8, tS, rS0, tS1, lS1, rS1, tS2, lS2, rS2, tS3, lS3, rS3, tS4, lS4, rS4, tS5, lS5, rS5, tS6, lS6, iB, iN, iG, iK, iR, cH, cF, cO, cA, cC, cT, cG, cM, cL, q, s59_147, decide_true, decide_false, Bool.not_true, Bool.not_false, Bool.false_eq_true, Bool.true_and, Bool.false_and, Bool.and_true, Bool.and_false, Int32.or_zero, gT_wI, gR_wI, gL_wI, gS_wI, gU_wI, gI_wI, gJ_wI, gI_wJ, gJ_wJ, gR_wJ, gT_wJ, gL_wJ, gS_wJ, gU_wJ, gI_wR, gJ_wR, gR_wR, gT_wR, gL_wR, gS_wR, gU_wR, wI_wI, wJ_wJ, wR_wR, j_s, j_add, j_addL, j_addR, j_mulL, j_mulR, j_cl, j_clL, j_neg, j_negL, j_nn, j_lt, j_le, j_eq, j_ltL, j_ltR, j_leL, j_leR, j_eqL, j_eqR, j_m1, j_m1L, j_m1R, j_eqLL, j_ltLL, j_leLL, n_le0, n_le1, n_lt0, n_lt1, gc_v, gc_n, ↓reduceIte, and_true, true_and, and_self, or_self, or_false, false_or, not_false_eq_true, not_true_eq_false, false_and, and_false, Nat.reduceAdd, Nat.reduceEqDiff, Nat.reduceLeDiff, Nat.reduceLT]
    · try dsimp only
      rw [s59_117]
      simp (disch := first | omega | assumption) only [hg.1, x_r2 hg, x_t2 hg, hσ, h145, tA, rA8, tLw, rA9, rA0, tA1, lA1, rA1, tA2, lA2, rA2, tA3, lA3, rA3, tA4, lA4, rA4, tA5, lA5, rA5, tA6, lA6, rA6, tA7, lA7, rA7, tA8, tS, rS0, tS1, lS1, rS1, tS2, lS2, rS2, tS3, lS3, rS3, tS4, lS4, rS4, tS5, lS5, rS5, tS6, lS6, iB, iN, iG, iK, iR, cH, cF, cO, cA, cC, cT, cG, cM, cL, gT_wI, gR_wI, gL_wI, gS_wI, gU_wI, gI_wI, gJ_wI, gI_wJ, gJ_wJ, gR_wJ, gT_wJ, gL_wJ, gS_wJ, gU_wJ, gI_wR, gJ_wR, gR_wR, gT_wR, gL_wR, gS_wR, gU_wR, wI_wI, wJ_wJ, wR_wR, j_s, j_add, j_addL, j_addR, j_mulL, j_mulR, j_cl, j_clL, j_neg, j_negL, j_nn, j_lt, j_le, j_eq, j_ltL, j_ltR, j_leL, j_leR, j_eqL, j_eqR, j_m1, j_m1L, j_m1R, j_eqLL, j_ltLL, j_leLL, n_le0, n_le1, n_lt0, n_lt1, gc_v, gc_n, ↓reduceIte, and_true, true_and, and_self, or_self, or_false, false_or, not_false_eq_true, not_true_eq_false, false_and, and_false, Nat.reduceAdd, Nat.reduceEqDiff, Nat.reduceLeDiff, Nat.reduceLT]
      rfl
  have L11 : ∀ w1, go gd_P0 d 59 180 [.ref 96, w1, .ref a, .int 0, .int 0] [] h = some (.inl (some (.int (pBits (fun p => !decide (dNow D p ≤ pb (dNow D) (eB (dE D)))) (eN (dE D))))), h) := by
    intro w1
    refine ((s59_180 d h 96 w1 a 0 0).trans (s59_180 d h 96 .null a 0 0).symm).trans ?_
    refine (lp_f (fun i x => go gd_P0 d 59 180 [.ref 96, .null, .ref a, .int x, .int (Int32.ofNat i)] [] h) (fun p b => if (!decide (dNow D p ≤ pb (dNow D) (eB (dE D)))) = true then b ||| ((1 : Int32) <<< (Int32.ofNat p &&& 31)) else b) (eN (dE D)) 0 ?_).trans ?_
    · intro i hi x
      try dsimp only
      rw [s59_180]
      by_cases q : dNow D i ≤ pb (dNow D) (eB (dE D))
      · simp (disch := first | omega | assumption) only [hg.1, x_r2 hg, x_t2 hg, hσ, h145, tA, rA8, tLw, rA9, rA0, tA1, lA1, rA1, tA2, lA2, rA2, tA3, lA3, rA3, tA4, lA4, rA4, tA5, lA5, rA5, tA6, lA6, rA6, tA7, lA7, rA7, tA8, tS, rS0, tS1, lS1, rS1, tS2, lS2, rS2, tS3, lS3, rS3, tS4, lS4, rS4, tS5, lS5, rS5, tS6, lS6, iB, iN, iG, iK, iR, cH, cF, cO, cA, cC, cT, cG, cM, cL, q, sp158 (d := d) (by omega) hs hx, s59_203, s59_213, decide_true, decide_false, Bool.not_true, Bool.not_false, Bool.false_eq_true, Bool.true_and, Bool.false_and, Bool.and_true, Bool.and_false, Int32.or_zero, gT_wI, gR_wI, gL_wI, gS_wI, gU_wI, gI_wI, gJ_wI, gI_wJ, gJ_wJ, gR_wJ, gT_wJ, gL_wJ, gS_wJ, gU_wJ, gI_wR, gJ_wR, gR_wR, gT_wR, gL_wR, gS_wR, gU_wR, wI_wI, wJ_wJ, wR_wR, j_s, j_add, j_addL, j_addR, j_mulL, j_mulR, j_cl, j_clL, j_neg, j_negL, j_nn, j_lt, j_le, j_eq, j_ltL, j_ltR, j_leL, j_leR, j_eqL, j_eqR, j_m1, j_m1L, j_m1R, j_eqLL, j_ltLL, j_leLL, n_le0, n_le1, n_lt0, n_lt1, gc_v, gc_n, ↓reduceIte, and_true, true_and, and_self, or_self, or_false, false_or, not_false_eq_true, not_true_eq_false, false_and, and_false, Nat.reduceAdd, Nat.reduceEqDiff, Nat.reduceLeDiff, Nat.reduceLT]
      · simp (disch := first | omega | assumption) only [hg.1, x_r2 hg, x_t2 hg, hσ, h145, tA, rA8, tLw, rA9, rA0, tA1, lA1, rA1, tA2, lA2, rA2, tA3, lA3, rA3, tA4, lA4, rA4, tA5, lA5, rA5, tA6, lA6, rA6, tA7, lA7, rA7, tA8, tS, rS0, tS1, lS1, rS1, tS2, lS2, rS2, tS3, lS3, rS3, tS4, lS4, rS4, tS5, lS5, rS5, tS6, lS6, iB, iN, iG, iK, iR, cH, cF, cO, cA, cC, cT, cG, cM, cL, q, sp158 (d := d) (by omega) hs hx, s59_203, s59_213, decide_true, decide_false, Bool.not_true, Bool.not_false, Bool.false_eq_true, Bool.true_and, Bool.false_and, Bool.and_true, Bool.and_false, Int32.or_zero, gT_wI, gR_wI, gL_wI, gS_wI, gU_wI, gI_wI, gJ_wI, gI_wJ, gJ_wJ, gR_wJ, gT_wJ, gL_wJ, gS_wJ, gU_wJ, gI_wR, gJ_wR, gR_wR, gT_wR, gL_wR, gS_wR, gU_wR, wI_wI, wJ_wJ, wR_wR, j_s, j_add, j_addL, j_addR, j_mulL, j_mulR, j_cl, j_clL, j_neg, j_negL, j_nn, j_lt, j_le, j_eq, j_ltL, j_ltR, j_leL, j_leR, j_eqL, j_eqR, j_m1, j_m1L, j_m1R, j_eqLL, j_ltLL, j_leLL, n_le0, n_le1, n_lt0, n_lt1, gc_v, gc_n, ↓reduceIte, and_true, true_and, and_self, or_self, or_false, false_or, not_false_eq_true, not_true_eq_false, false_and, and_false, Nat.reduceAdd, Nat.reduceEqDiff, Nat.reduceLeDiff, Nat.reduceLT]
    · try dsimp only
      rw [s59_180]
      simp (disch := first | omega | assumption) only [hg.1, x_r2 hg, x_t2 hg, hσ, h145, tA, rA8, tLw, rA9, rA0, tA1, lA1, rA1, tA2, lA2, rA2, tA3, lA3, rA3, tA4, lA4, rA4, tA5, lA5, rA5, tA6, lA6, rA6, tA7, lA7, rA7, tA8, tS, rS0, tS1, lS1, rS1, tS2, lS2, rS2, tS3, lS3, rS3, tS4, lS4, rS4, tS5, lS5, rS5, tS6, lS6, iB, iN, iG, iK, iR, cH, cF, cO, cA, cC, cT, cG, cM, cL, gT_wI, gR_wI, gL_wI, gS_wI, gU_wI, gI_wI, gJ_wI, gI_wJ, gJ_wJ, gR_wJ, gT_wJ, gL_wJ, gS_wJ, gU_wJ, gI_wR, gJ_wR, gR_wR, gT_wR, gL_wR, gS_wR, gU_wR, wI_wI, wJ_wJ, wR_wR, j_s, j_add, j_addL, j_addR, j_mulL, j_mulR, j_cl, j_clL, j_neg, j_negL, j_nn, j_lt, j_le, j_eq, j_ltL, j_ltR, j_leL, j_leR, j_eqL, j_eqR, j_m1, j_m1L, j_m1R, j_eqLL, j_ltLL, j_leLL, n_le0, n_le1, n_lt0, n_lt1, gc_v, gc_n, ↓reduceIte, and_true, true_and, and_self, or_self, or_false, false_or, not_false_eq_true, not_true_eq_false, false_and, and_false, Nat.reduceAdd, Nat.reduceEqDiff, Nat.reduceLeDiff, Nat.reduceLT]
      rfl
  rw [r59, s59_0]
  unfold vTold
  rcases c012 hw with rfl | rfl | rfl | rfl | rfl | rfl | rfl | rfl | rfl | rfl | rfl | rfl
  all_goals simp (disch := first | omega | assumption) only [hg.1, x_r2 hg, x_t2 hg, hσ, h145, tA, rA8, tLw, rA9, rA0, tA1, lA1, rA1, tA2, lA2, rA2, tA3, lA3, rA3, tA4, lA4, rA4, tA5, lA5, rA5, tA6, lA6, rA6, tA7, lA7, rA7, tA8, tS, rS0, tS1, lS1, rS1, tS2, lS2, rS2, tS3, lS3, rS3, tS4, lS4, rS4, tS5, lS5, rS5, tS6, lS6, iB, iN, iG, iK, iR, cH, cF, cO, cA, cC, cT, cG, cM, cL, e53, s59_8, s59_15, s59_101, s59_111, s59_159, s59_164, sp158 (d := d) (by omega) hs hx, sp149 (d := d) (by omega) hs hx, sp167 (d := d) (by omega) hs hx hr, sp154 (d := d) (by omega) hs hx hr.2.2.1 (show m < 1000000 by omega), L6, L11, y1, y2, gT_wI, gR_wI, gL_wI, gS_wI, gU_wI, gI_wI, gJ_wI, gI_wJ, gJ_wJ, gR_wJ, gT_wJ, gL_wJ, gS_wJ, gU_wJ, gI_wR, gJ_wR, gR_wR, gT_wR, gL_wR, gS_wR, gU_wR, wI_wI, wJ_wJ, wR_wR, j_s, j_add, j_addL, j_addR, j_mulL, j_mulR, j_cl, j_clL, j_neg, j_negL, j_nn, j_lt, j_le, j_eq, j_ltL, j_ltR, j_leL, j_leR, j_eqL, j_eqR, j_m1, j_m1L, j_m1R, j_eqLL, j_ltLL, j_leLL, n_le0, n_le1, n_lt0, n_lt1, gc_v, gc_n, ↓reduceIte, and_true, true_and, and_self, or_self, or_false, false_or, not_false_eq_true, not_true_eq_false, false_and, and_false, Nat.reduceAdd, Nat.reduceEqDiff, Nat.reduceLeDiff, Nat.reduceLT]
theorem x59n {D : gdD} {v : Int32} (hv : v < 0 ∨ 11 < v) : XNo 59 [.int v] D 25 := by
  intro d h hd hi hD
  obtain ⟨a, σ, m, h145, hσ, hs, hx, hr, hm, hl, hE, ha, hT9⟩ := hi.nw hD
  have hg := hi.1
  have hz : 4 ≤ gS h := by have := hi.2.2.2.2.2.2.2.2.2.2; omega
  obtain ⟨d, rfl⟩ : ∃ e, d = e + 1 := ⟨d - 1, by omega⟩
  obtain ⟨⟨hA1, hA2, hS1⟩, ⟨tA, rA8, tLw, rA9⟩, ⟨rA0, tA1, lA1⟩, ⟨rA1, tA2, lA2⟩, ⟨rA2, tA3, lA3⟩, ⟨rA3, tA4, lA4⟩, ⟨rA4, tA5, lA5⟩, ⟨rA5, tA6, lA6⟩, ⟨rA6, tA7, lA7⟩, ⟨rA7, tA8⟩, tS, ⟨rS0, tS1, lS1⟩, ⟨rS1, tS2, lS2⟩, ⟨rS2, tS3, lS3⟩, ⟨rS3, tS4, lS4⟩, ⟨rS4, tS5, lS5⟩, ⟨rS5, tS6, lS6⟩⟩ := id hs
  obtain ⟨⟨hB, hN⟩, ⟨iB, iN⟩, iG, iK, iR, cH, cF, cO, cA, cC, cW, cT, cG, cM, cL⟩ := id hx
  rw [r59, s59_0]
  simp (disch := first | omega | assumption) only [hg.1, x_r2 hg, x_t2 hg, hσ, h145, tA, rA8, tLw, rA9, rA0, tA1, lA1, rA1, tA2, lA2, rA2, tA3, lA3, rA3, tA4, lA4, rA4, tA5, lA5, rA5, tA6, lA6, rA6, tA7, lA7, rA7, tA8, tS, rS0, tS1, lS1, rS1, tS2, lS2, rS2, tS3, lS3, rS3, tS4, lS4, rS4, tS5, lS5, rS5, tS6, lS6, iB, iN, iG, iK, iR, cH, cF, cO, cA, cC, cT, cG, cM, cL, sp53n hg hz (d := d) (by omega) hv, gc_x, gx_n (k := 59) (pc := 5) (t := 25) rfl, gT_wI, gR_wI, gL_wI, gS_wI, gU_wI, gI_wI, gJ_wI, gI_wJ, gJ_wJ, gR_wJ, gT_wJ, gL_wJ, gS_wJ, gU_wJ, gI_wR, gJ_wR, gR_wR, gT_wR, gL_wR, gS_wR, gU_wR, wI_wI, wJ_wJ, wR_wR, j_s, j_add, j_addL, j_addR, j_mulL, j_mulR, j_cl, j_clL, j_neg, j_negL, j_nn, j_lt, j_le, j_eq, j_ltL, j_ltR, j_leL, j_leR, j_eqL, j_eqR, j_m1, j_m1L, j_m1R, j_eqLL, j_ltLL, j_leLL, n_le0, n_le1, n_lt0, n_lt1, gc_v, gc_n, ↓reduceIte, and_true, true_and, and_self, or_self, or_false, false_or, not_false_eq_true, not_true_eq_false, false_and, and_false, Nat.reduceAdd, Nat.reduceEqDiff, Nat.reduceLeDiff, Nat.reduceLT]
theorem m232 {D : gdD} {w : Nat} (hw : w ≤ 11) : MOk 232 [.int (Int32.ofNat w)] D (.int (vTold D w)) := by
  intro d h hd hi hD
  obtain ⟨d, rfl⟩ : ∃ e, d = e + 1 := ⟨d - 1, by omega⟩
  obtain ⟨hz, ez, hiz, z0, qz⟩ := hi.z
  have hm := hi.1
  have hmz := hiz.1
  obtain ⟨ht, et, hit, zt, qt, hx, hmt⟩ : ∃ ht, wI hz (tk (gI hz)) = ht ∧ MI ht D ∧ gI ht 1231 0 = 0 ∧ MZ hz ht ∧ MC (gI ht) (dE D) (-1) (dNow D) ∧ MS ht := ⟨_, rfl, hiz.mz (MZ.tk hz), by rw [gI_wI, tk_ne (by decide)]; exact z0, MZ.tk hz, hiz.tk, hmz⟩
  obtain ⟨m, hm4, hr⟩ := hD.2.1 (dW D) (Nat.le_refl _)
  obtain ⟨⟨hB, hN⟩, ⟨iB, iN, iA⟩, iG, iK, iR, cS⟩ := id hx
  have e211 := sp211 hmz (d := d) (by omega)
  rw [et] at e211
  obtain ⟨-, -, -, jT, -, -, -, -, -, -, -, -, jb, js, -⟩ := id hit
  refine ⟨ht, ?_, qz.trans qt, zt⟩
  have e183 := sp183 hmz z0 (d := d) (by omega) 1 1
  have e234 : ∀ w, (w = 5 ∨ w = 6 ∨ w = 11) → run gd_P0 d 234 [.ref 1231, .int (Int32.ofNat w)] ht = some (.inl (some (.int (vTold D w))), ht) := by
    intro w hw
    obtain ⟨d, rfl⟩ : ∃ e, d = e + 1 := ⟨d - 1, by omega⟩
    rw [r234, s234_0]
    rcases hw with rfl | rfl | rfl
    · refine (lp_f (fun i x => go gd_P0 d 234 4 [.ref 1231, .int (Int32.ofNat 5), .int x, .int (Int32.ofNat i)] [] ht) (fun p b => if decide (dNow D (35 + p) = 1) = true then b ||| ((1 : Int32) <<< (Int32.ofNat p &&& 31)) else b) (eN (dE D)) 0 ?_).trans ?_
      · intro i hi x
        try dsimp only
        rw [s234_4]
        by_cases q : dNow D (35 + i) = 1
        · simp (disch := first | omega | assumption) only [hm.t, m_r39 hm, m_t39 hm, m_l39 hm, hmt.t, m_r39 hmt, m_t39 hmt, m_l39 hmt, iB, iN, iA, iG, iK, iR, cS, q, s234_75, s234_81, s234_82, decide_true, decide_false, Bool.not_true, Bool.not_false, Bool.false_eq_true, Bool.true_and, Bool.false_and, Bool.and_true, Bool.and_false, Int32.or_zero, gT_wI, gR_wI, gL_wI, gS_wI, gU_wI, gI_wI, gJ_wI, gI_wJ, gJ_wJ, gR_wJ, gT_wJ, gL_wJ, gS_wJ, gU_wJ, gI_wR, gJ_wR, gR_wR, gT_wR, gL_wR, gS_wR, gU_wR, wI_wI, wJ_wJ, wR_wR, j_s, j_add, j_addL, j_addR, j_mulL, j_mulR, j_cl, j_clL, j_neg, j_negL, j_nn, j_lt, j_le, j_eq, j_ltL, j_ltR, j_leL, j_leR, j_eqL, j_eqR, j_m1, j_m1L, j_m1R, j_eqLL, j_ltLL, j_leLL, n_le0, n_le1, n_lt0, n_lt1, gc_v, gc_n, ↓reduceIte, and_true, true_and, and_self, or_self, or_false, false_or, not_false_eq_true, not_true_eq_false, false_and, and_false, Nat.reduceAdd, Nat.reduceEqDiff, Nat.reduceLeDiff, Nat.reduceLT]
        · simp (disch := first | omega | assumption) only [hm.t, m_r39 hm, m_t39 hm, m_l39 hm, hmt.t, m_r39 hmt, m_t39 hmt, m_l39 hmt, iB, iN, iA, iG, iK, iR, cS, q, s234_75, s234_81, s234_82, decide_true, decide_false, Bool.not_true, Bool.not_false, Bool.false_eq_true, Bool.true_and, Bool.false_and, Bool.and_true, Bool.and_false, Int32.or_zero, gT_wI, gR_wI, gL_wI, gS_wI, gU_wI, gI_wI, gJ_wI, gI_wJ, gJ_wJ, gR_wJ, gT_wJ, gL_wJ, gS_wJ, gU_wJ, gI_wR, gJ_wR, gR_wR, gT_wR, gL_wR, gS_wR, gU_wR, wI_wI, wJ_wJ, wR_wR, j_s, j_add, j_addL, j_addR, j_mulL, j_mulR, j_cl, j_clL, j_neg, j_negL, j_nn, j_lt, j_le, j_eq, j_ltL, j_ltR, j_leL, j_leR, j_eqL, j_eqR, j_m1, j_m1L, j_m1R, j_eqLL, j_ltLL, j_leLL, n_le0, n_le1, n_lt0, n_lt1, gc_v, gc_n, ↓reduceIte, and_true, true_and, and_self, or_self, or_false, false_or, not_false_eq_true, not_true_eq_false, false_and, and_false, Nat.reduceAdd, Nat.reduceEqDiff, Nat.reduceLeDiff, Nat.reduceLT]
      · try dsimp only
        rw [s234_4]
        simp (disch := first | omega | assumption) only [hm.t, m_r39 hm, m_t39 hm, m_l39 hm, hmt.t, m_r39 hmt, m_t39 hmt, m_l39 hmt, iB, iN, iA, iG, iK, iR, cS, gT_wI, gR_wI, gL_wI, gS_wI, gU_wI, gI_wI, gJ_wI, gI_wJ, gJ_wJ, gR_wJ, gT_wJ, gL_wJ, gS_wJ, gU_wJ, gI_wR, gJ_wR, gR_wR, gT_wR, gL_wR, gS_wR, gU_wR, wI_wI, wJ_wJ, wR_wR, j_s, j_add, j_addL, j_addR, j_mulL, j_mulR, j_cl, j_clL, j_neg, j_negL, j_nn, j_lt, j_le, j_eq, j_ltL, j_ltR, j_leL, j_leR, j_eqL, j_eqR, j_m1, j_m1L, j_m1R, j_eqLL, j_ltLL, j_leLL, n_le0, n_le1, n_lt0, n_lt1, gc_v, gc_n, ↓reduceIte, and_true, true_and, and_self, or_self, or_false, false_or, not_false_eq_true, not_true_eq_false, false_and, and_false, Nat.reduceAdd, Nat.reduceEqDiff, Nat.reduceLeDiff, Nat.reduceLT]
        rfl
    · refine (lp_f (fun i x => go gd_P0 d 234 4 [.ref 1231, .int (Int32.ofNat 6), .int x, .int (Int32.ofNat i)] [] ht) (fun p b => if (!decide (dNow D (14 + p) = -1)) = true then b ||| ((1 : Int32) <<< (Int32.ofNat p &&& 31)) else b) (eN (dE D)) 0 ?_).trans ?_
      · intro i hi x
        try dsimp only
        rw [s234_4]
        by_cases q : dNow D (14 + i) = -1
        · simp (disch := first | omega | assumption) only [hm.t, m_r39 hm, m_t39 hm, m_l39 hm, hmt.t, m_r39 hmt, m_t39 hmt, m_l39 hmt, iB, iN, iA, iG, iK, iR, cS, q, s234_75, s234_81, s234_82, decide_true, decide_false, Bool.not_true, Bool.not_false, Bool.false_eq_true, Bool.true_and, Bool.false_and, Bool.and_true, Bool.and_false, Int32.or_zero, gT_wI, gR_wI, gL_wI, gS_wI, gU_wI, gI_wI, gJ_wI, gI_wJ, gJ_wJ, gR_wJ, gT_wJ, gL_wJ, gS_wJ, gU_wJ, gI_wR, gJ_wR, gR_wR, gT_wR, gL_wR, gS_wR, gU_wR, wI_wI, wJ_wJ, wR_wR, j_s, j_add, j_addL, j_addR, j_mulL, j_mulR, j_cl, j_clL, j_neg, j_negL, j_nn, j_lt, j_le, j_eq, j_ltL, j_ltR, j_leL, j_leR, j_eqL, j_eqR, j_m1, j_m1L, j_m1R, j_eqLL, j_ltLL, j_leLL, n_le0, n_le1, n_lt0, n_lt1, gc_v, gc_n, ↓reduceIte, and_true, true_and, and_self, or_self, or_false, false_or, not_false_eq_true, not_true_eq_false, false_and, and_false, Nat.reduceAdd, Nat.reduceEqDiff, Nat.reduceLeDiff, Nat.reduceLT]
        · simp (disch := first | omega | assumption) only [hm.t, m_r39 hm, m_t39 hm, m_l39 hm, hmt.t, m_r39 hmt, m_t39 hmt, m_l39 hmt, iB, iN, iA, iG, iK, iR, cS, q, s234_75, s234_81, s234_82, decide_true, decide_false, Bool.not_true, Bool.not_false, Bool.false_eq_true, Bool.true_and, Bool.false_and, Bool.and_true, Bool.and_false, Int32.or_zero, gT_wI, gR_wI, gL_wI, gS_wI, gU_wI, gI_wI, gJ_wI, gI_wJ, gJ_wJ, gR_wJ, gT_wJ, gL_wJ, gS_wJ, gU_wJ, gI_wR, gJ_wR, gR_wR, gT_wR, gL_wR, gS_wR, gU_wR, wI_wI, wJ_wJ, wR_wR, j_s, j_add, j_addL, j_addR, j_mulL, j_mulR, j_cl, j_clL, j_neg, j_negL, j_nn, j_lt, j_le, j_eq, j_ltL, j_ltR, j_leL, j_leR, j_eqL, j_eqR, j_m1, j_m1L, j_m1R, j_eqLL, j_ltLL, j_leLL, n_le0, n_le1, n_lt0, n_lt1, gc_v, gc_n, ↓reduceIte, and_true, true_and, and_self, or_self, or_false, false_or, not_false_eq_true, not_true_eq_false, false_and, and_false, Nat.reduceAdd, Nat.reduceEqDiff, Nat.reduceLeDiff, Nat.reduceLT]
      · try dsimp only
        rw [s234_4]
        simp (disch := first | omega | assumption) only [hm.t, m_r39 hm, m_t39 hm, m_l39 hm, hmt.t, m_r39 hmt, m_t39 hmt, m_l39 hmt, iB, iN, iA, iG, iK, iR, cS, gT_wI, gR_wI, gL_wI, gS_wI, gU_wI, gI_wI, gJ_wI, gI_wJ, gJ_wJ, gR_wJ, gT_wJ, gL_wJ, gS_wJ, gU_wJ, gI_wR, gJ_wR, gR_wR, gT_wR, gL_wR, gS_wR, gU_wR, wI_wI, wJ_wJ, wR_wR, j_s, j_add, j_addL, j_addR, j_mulL, j_mulR, j_cl, j_clL, j_neg, j_negL, j_nn, j_lt, j_le, j_eq, j_ltL, j_ltR, j_leL, j_leR, j_eqL, j_eqR, j_m1, j_m1L, j_m1R, j_eqLL, j_ltLL, j_leLL, n_le0, n_le1, n_lt0, n_lt1, gc_v, gc_n, ↓reduceIte, and_true, true_and, and_self, or_self, or_false, false_or, not_false_eq_true, not_true_eq_false, false_and, and_false, Nat.reduceAdd, Nat.reduceEqDiff, Nat.reduceLeDiff, Nat.reduceLT]
        rfl
    · refine (lp_f (fun i x => go gd_P0 d 234 4 [.ref 1231, .int (Int32.ofNat 11), .int x, .int (Int32.ofNat i)] [] ht) (fun p b => if (!decide (dNow D p ≤ pb (dNow D) (eB (dE D)))) = true then b ||| ((1 : Int32) <<< (Int32.ofNat p &&& 31)) else b) (eN (dE D)) 0 ?_).trans ?_
      · intro i hi x
        try dsimp only
        rw [s234_4]
        by_cases q : dNow D i ≤ pb (dNow D) (eB (dE D))
        · simp (disch := first | omega | assumption) only [hm.t, m_r39 hm, m_t39 hm, m_l39 hm, hmt.t, m_r39 hmt, m_t39 hmt, m_l39 hmt, iB, iN, iA, iG, iK, iR, cS, q, sp216 (d := d) (by omega) hmt hx, Nat.zero_add, s234_72, s234_75, s234_81, s234_82, decide_true, decide_false, Bool.not_true, Bool.not_false, Bool.false_eq_true, Bool.true_and, Bool.false_and, Bool.and_true, Bool.and_false, Int32.or_zero, gT_wI, gR_wI, gL_wI, gS_wI, gU_wI, gI_wI, gJ_wI, gI_wJ, gJ_wJ, gR_wJ, gT_wJ, gL_wJ, gS_wJ, gU_wJ, gI_wR, gJ_wR, gR_wR, gT_wR, gL_wR, gS_wR, gU_wR, wI_wI, wJ_wJ, wR_wR, j_s, j_add, j_addL, j_addR, j_mulL, j_mulR, j_cl, j_clL, j_neg, j_negL, j_nn, j_lt, j_le, j_eq, j_ltL, j_ltR, j_leL, j_leR, j_eqL, j_eqR, j_m1, j_m1L, j_m1R, j_eqLL, j_ltLL, j_leLL, n_le0, n_le1, n_lt0, n_lt1, gc_v, gc_n, ↓reduceIte, and_true, true_and, and_self, or_self, or_false, false_or, not_false_eq_true, not_true_eq_false, false_and, and_false, Nat.reduceAdd, Nat.reduceEqDiff, Nat.reduceLeDiff, Nat.reduceLT]
        · simp (disch := first | omega | assumption) only [hm.t, m_r39 hm, m_t39 hm, m_l39 hm, hmt.t, m_r39 hmt, m_t39 hmt, m_l39 hmt, iB, iN, iA, iG, iK, iR, cS, q, sp216 (d := d) (by omega) hmt hx, Nat.zero_add, s234_72, s234_75, s234_81, s234_82, decide_true, decide_false, Bool.not_true, Bool.not_false, Bool.false_eq_true, Bool.true_and, Bool.false_and, Bool.and_true, Bool.and_false, Int32.or_zero, gT_wI, gR_wI, gL_wI, gS_wI, gU_wI, gI_wI, gJ_wI, gI_wJ, gJ_wJ, gR_wJ, gT_wJ, gL_wJ, gS_wJ, gU_wJ, gI_wR, gJ_wR, gR_wR, gT_wR, gL_wR, gS_wR, gU_wR, wI_wI, wJ_wJ, wR_wR, j_s, j_add, j_addL, j_addR, j_mulL, j_mulR, j_cl, j_clL, j_neg, j_negL, j_nn, j_lt, j_le, j_eq, j_ltL, j_ltR, j_leL, j_leR, j_eqL, j_eqR, j_m1, j_m1L, j_m1R, j_eqLL, j_ltLL, j_leLL, n_le0, n_le1, n_lt0, n_lt1, gc_v, gc_n, ↓reduceIte, and_true, true_and, and_self, or_self, or_false, false_or, not_false_eq_true, not_true_eq_false, false_and, and_false, Nat.reduceAdd, Nat.reduceEqDiff, Nat.reduceLeDiff, Nat.reduceLT]
      · try dsimp only
        rw [s234_4]
        simp (disch := first | omega | assumption) only [hm.t, m_r39 hm, m_t39 hm, m_l39 hm, hmt.t, m_r39 hmt, m_t39 hmt, m_l39 hmt, iB, iN, iA, iG, iK, iR, cS, gT_wI, gR_wI, gL_wI, gS_wI, gU_wI, gI_wI, gJ_wI, gI_wJ, gJ_wJ, gR_wJ, gT_wJ, gL_wJ, gS_wJ, gU_wJ, gI_wR, gJ_wR, gR_wR, gT_wR, gL_wR, gS_wR, gU_wR, wI_wI, wJ_wJ, wR_wR, j_s, j_add, j_addL, j_addR, j_mulL, j_mulR, j_cl, j_clL, j_neg, j_negL, j_nn, j_lt, j_le, j_eq, j_ltL, j_ltR, j_leL, j_leR, j_eqL, j_eqR, j_m1, j_m1L, j_m1R, j_eqLL, j_ltLL, j_leLL, n_le0, n_le1, n_lt0, n_lt1, gc_v, gc_n, ↓reduceIte, and_true, true_and, and_self, or_self, or_false, false_or, not_false_eq_true, not_true_eq_false, false_and, and_false, Nat.reduceAdd, Nat.reduceEqDiff, Nat.reduceLeDiff, Nat.reduceLT]
        rfl
  have e5 := e234 5 (by omega)
  have e6 := e234 6 (by omega)
  have e11 := e234 11 (by omega)
  rw [r232, s232_0]
  simp only [hm.t, ez, sp233 (d := d) (by omega), ↓reduceIte]
  unfold vTold at e5 e6 e11 ⊢
  rcases c012 hw with rfl | rfl | rfl | rfl | rfl | rfl | rfl | rfl | rfl | rfl | rfl | rfl
  all_goals simp (disch := first | omega | assumption) only [hmz.t, hm.t, m_r39 hm, m_t39 hm, m_l39 hm, hmt.t, m_r39 hmt, m_t39 hmt, m_l39 hmt, iB, iN, iA, iG, iK, iR, cS, s232_13, e183, s232_18, i10, e211, s232_27, s232_62, s232_80, s232_85, s232_105, s232_127, s232_138, s232_158, sp216 (d := d) (by omega) hmt hx, sp235 (d := d) (by omega) hmt hx hr, sp221 (d := d) (by omega) hmt hx hr.2.2.1 (show m < 1000000 by omega), jb.1, js, gT_wI, gR_wI, gL_wI, gS_wI, gU_wI, gI_wI, gJ_wI, gI_wJ, gJ_wJ, gR_wJ, gT_wJ, gL_wJ, gS_wJ, gU_wJ, gI_wR, gJ_wR, gR_wR, gT_wR, gL_wR, gS_wR, gU_wR, wI_wI, wJ_wJ, wR_wR, j_s, j_add, j_addL, j_addR, j_mulL, j_mulR, j_cl, j_clL, j_neg, j_negL, j_nn, j_lt, j_le, j_eq, j_ltL, j_ltR, j_leL, j_leR, j_eqL, j_eqR, j_m1, j_m1L, j_m1R, j_eqLL, j_ltLL, j_leLL, n_le0, n_le1, n_lt0, n_lt1, gc_v, gc_n, ↓reduceIte, and_true, true_and, and_self, or_self, or_false, false_or, not_false_eq_true, not_true_eq_false, false_and, and_false, Nat.reduceAdd, Nat.reduceEqDiff, Nat.reduceLeDiff, Nat.reduceLT] at e5 e6 e11 ⊢
  all_goals first | done | simp (disch := first | omega | assumption) only [e5, e6, e11, s232_85, gT_wI, gR_wI, gL_wI, gS_wI, gU_wI, gI_wI, gJ_wI, gI_wJ, gJ_wJ, gR_wJ, gT_wJ, gL_wJ, gS_wJ, gU_wJ, gI_wR, gJ_wR, gR_wR, gT_wR, gL_wR, gS_wR, gU_wR, wI_wI, wJ_wJ, wR_wR, j_s, j_add, j_addL, j_addR, j_mulL, j_mulR, j_cl, j_clL, j_neg, j_negL, j_nn, j_lt, j_le, j_eq, j_ltL, j_ltR, j_leL, j_leR, j_eqL, j_eqR, j_m1, j_m1L, j_m1R, j_eqLL, j_ltLL, j_leLL, n_le0, n_le1, n_lt0, n_lt1, gc_v, gc_n, ↓reduceIte, and_true, true_and, and_self, or_self, or_false, false_or, not_false_eq_true, not_true_eq_false, false_and, and_false, Nat.reduceAdd, Nat.reduceEqDiff, Nat.reduceLeDiff, Nat.reduceLT]
theorem m232n {D : gdD} {v : Int32} (hv : v < 0 ∨ 11 < v) : MNo 232 [.int v] D 25 1 (.int 0) := by
  intro d h hd hi hD
  obtain ⟨d, rfl⟩ : ∃ e, d = e + 1 := ⟨d - 1, by omega⟩
  obtain ⟨hz, ez, hiz, z0, qz⟩ := hi.z
  have hm := hi.1
  have hmz := hiz.1
  have e183 := sp183n hmz z0 (d := d) (by omega) (c := 1) (by decide) 25 (by omega) (by omega)
  have c0 : (if v < 0 then (0 : Int32) else if 11 < v then 0 else 1) = 0 := by
    rcases hv with h1 | h1
    · rw [if_pos h1]
    · by_cases h2 : v < 0
      · rw [if_pos h2]
      · rw [if_neg h2, if_pos h1]
  rw [r232, s232_0]
  simp only [hm.t, ez, sp233 (d := d) (by omega), c0, gc_v, s232_13, hmz.t, ↓reduceIte]
  refine Eq.trans (congrArg (gc gd_P0 d 232 _ _ _ _) e183) ?_
  rw [gc_v, s232_18]
  subst ez
  rw [mthr_z]
  rfl

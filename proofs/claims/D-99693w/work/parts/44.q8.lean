/-! ===== QUERIES: tallest, gained, heads, driest, would ===== -/
set_option maxRecDepth 100000
def pMax (E : gdE) (r : gdR) : Int32 := fo (fun p b => if b = -1 then Int32.ofNat p else if r p ≤ r b.toNatClampNeg then b else Int32.ofNat p) (eN E) (-1)
def vTall (D : gdD) (w : Nat) : Int32 := if w = 0 then pMax (dE D) (dNow D) else if pMax (dE D) (dNow D) = -1 then -1 else dNow D (pMax (dE D) (dNow D)).toNatClampNeg
theorem pMax_or (E : gdE) (r : gdR) : pMax E r = -1 ∨ ∃ q, q < eN E ∧ pMax E r = Int32.ofNat q := by
  unfold pMax
  refine fo_ind (fun i x => x = -1 ∨ ∃ q, q < i ∧ x = Int32.ofNat q) (Or.inl rfl) ?_
  intro i x hi hx
  try dsimp only
  rcases hx with rfl | ⟨q, h1, rfl⟩
  · rw [if_pos rfl]; exact Or.inr ⟨i, by omega, rfl⟩
  · split
    · exact Or.inr ⟨i, by omega, rfl⟩
    · split
      · exact Or.inr ⟨q, by omega, rfl⟩
      · exact Or.inr ⟨i, by omega, rfl⟩
theorem c02 {w : Nat} (h : w ≤ 1) : w = 0 ∨ w = 1 := by omega
theorem x84 {D : gdD} {w : Nat} (hw : w ≤ 1) : XOk 84 [.int (Int32.ofNat w)] D (.int (vTall D w)) := by
  intro d h hd hi hD
  obtain ⟨a, σ, m, h145, hσ, hs, hx, hr, hm, hl, hE, ha, hT9⟩ := hi.nw hD
  have hg := hi.1
  have hz : 4 ≤ gS h := by have := hi.2.2.2.2.2.2.2.2.2.2; omega
  obtain ⟨d, rfl⟩ : ∃ e, d = e + 1 := ⟨d - 1, by omega⟩
  obtain ⟨⟨hA1, hA2, hS1⟩, ⟨tA, rA8, tLw, rA9⟩, ⟨rA0, tA1, lA1⟩, ⟨rA1, tA2, lA2⟩, ⟨rA2, tA3, lA3⟩, ⟨rA3, tA4, lA4⟩, ⟨rA4, tA5, lA5⟩, ⟨rA5, tA6, lA6⟩, ⟨rA6, tA7, lA7⟩, ⟨rA7, tA8⟩, tS, ⟨rS0, tS1, lS1⟩, ⟨rS1, tS2, lS2⟩, ⟨rS2, tS3, lS3⟩, ⟨rS3, tS4, lS4⟩, ⟨rS4, tS5, lS5⟩, ⟨rS5, tS6, lS6⟩⟩ := id hs
  obtain ⟨⟨hB, hN⟩, ⟨iB, iN⟩, iG, iK, iR, cH, cF, cO, cA, cC, cW, cT, cG, cM, cL⟩ := id hx
  refine ⟨h, ?_, XQ.refl h⟩
  have e53 := sp53 hg (d := d) (by omega) (v := Int32.ofNat w) (lo := 0) (hi := 1) (by rw [j_neg (by omega)]; exact fun z => z) (by rw [j_ltL (by omega) (by omega)]; omega)
  have L := lp_p (fun i x => go gd_P0 d 84 23 [.ref 96, .int (Int32.ofNat w), .ref (a + 2), .int x, .int (Int32.ofNat i)] [] h) (fun p b => if b = -1 then Int32.ofNat p else if dNow D p ≤ dNow D b.toNatClampNeg then b else Int32.ofNat p) (fun i x => x = -1 ∨ ∃ q, q < i ∧ x = Int32.ofNat q) (eN (dE D)) (-1) (Or.inl rfl) ?_
  · have L1 : go gd_P0 d 84 23 [.ref 96, .int (Int32.ofNat w), .ref (a + 2), .int (-1), .int 0] [] h = go gd_P0 d 84 23 [.ref 96, .int (Int32.ofNat w), .ref (a + 2), .int (pMax (dE D) (dNow D)), .int (Int32.ofNat (eN (dE D)))] [] h := L.1
    rw [r84, s84_0]
    simp (disch := first | omega | assumption) only [hg.1, x_r2 hg, x_t2 hg, hσ, h145, tA, rA8, tLw, rA9, rA0, tA1, lA1, rA1, tA2, lA2, rA2, tA3, lA3, rA3, tA4, lA4, rA4, tA5, lA5, rA5, tA6, lA6, rA6, tA7, lA7, rA7, tA8, tS, rS0, tS1, lS1, rS1, tS2, lS2, rS2, tS3, lS3, rS3, tS4, lS4, rS4, tS5, lS5, rS5, tS6, lS6, iB, iN, iG, iK, iR, cH, cF, cO, cA, cC, cT, cG, cM, cL, e53, s84_7, s84_14, gT_wI, gR_wI, gL_wI, gS_wI, gU_wI, gI_wI, gJ_wI, gI_wJ, gJ_wJ, gR_wJ, gT_wJ, gL_wJ, gS_wJ, gU_wJ, gI_wR, gJ_wR, gR_wR, gT_wR, gL_wR, gS_wR, gU_wR, wI_wI, wJ_wJ, wR_wR, j_s, j_add, j_addL, j_addR, j_mulL, j_mulR, j_cl, j_clL, j_neg, j_negL, j_nn, j_lt, j_le, j_eq, j_ltL, j_ltR, j_leL, j_leR, j_eqL, j_eqR, j_m1, j_m1L, j_m1R, j_eqLL, j_ltLL, j_leLL, n_le0, n_le1, n_lt0, n_lt1, gc_v, gc_n, ↓reduceIte, and_true, true_and, and_self, or_self, or_false, false_or, not_false_eq_true, not_true_eq_false, false_and, and_false, Nat.reduceAdd, Nat.reduceEqDiff, Nat.reduceLeDiff, Nat.reduceLT]
    rw [L1, s84_23]
    unfold vTall
    rcases pMax_or (dE D) (dNow D) with z | ⟨q, z1, z2⟩
    · rcases c02 hw with rfl | rfl
      all_goals simp (disch := first | omega | assumption) only [hg.1, x_r2 hg, x_t2 hg, hσ, h145, tA, rA8, tLw, rA9, rA0, tA1, lA1, rA1, tA2, lA2, rA2, tA3, lA3, rA3, tA4, lA4, rA4, tA5, lA5, rA5, tA6, lA6, rA6, tA7, lA7, rA7, tA8, tS, rS0, tS1, lS1, rS1, tS2, lS2, rS2, tS3, lS3, rS3, tS4, lS4, rS4, tS5, lS5, rS5, tS6, lS6, iB, iN, iG, iK, iR, cH, cF, cO, cA, cC, cT, cG, cM, cL, z, s84_68, s84_75, gT_wI, gR_wI, gL_wI, gS_wI, gU_wI, gI_wI, gJ_wI, gI_wJ, gJ_wJ, gR_wJ, gT_wJ, gL_wJ, gS_wJ, gU_wJ, gI_wR, gJ_wR, gR_wR, gT_wR, gL_wR, gS_wR, gU_wR, wI_wI, wJ_wJ, wR_wR, j_s, j_add, j_addL, j_addR, j_mulL, j_mulR, j_cl, j_clL, j_neg, j_negL, j_nn, j_lt, j_le, j_eq, j_ltL, j_ltR, j_leL, j_leR, j_eqL, j_eqR, j_m1, j_m1L, j_m1R, j_eqLL, j_ltLL, j_leLL, n_le0, n_le1, n_lt0, n_lt1, gc_v, gc_n, ↓reduceIte, and_true, true_and, and_self, or_self, or_false, false_or, not_false_eq_true, not_true_eq_false, false_and, and_false, Nat.reduceAdd, Nat.reduceEqDiff, Nat.reduceLeDiff, Nat.reduceLT]
    · rcases c02 hw with rfl | rfl
      all_goals simp (disch := first | omega | assumption) only [hg.1, x_r2 hg, x_t2 hg, hσ, h145, tA, rA8, tLw, rA9, rA0, tA1, lA1, rA1, tA2, lA2, rA2, tA3, lA3, rA3, tA4, lA4, rA4, tA5, lA5, rA5, tA6, lA6, rA6, tA7, lA7, rA7, tA8, tS, rS0, tS1, lS1, rS1, tS2, lS2, rS2, tS3, lS3, rS3, tS4, lS4, rS4, tS5, lS5, rS5, tS6, lS6, iB, iN, iG, iK, iR, cH, cF, cO, cA, cC, cT, cG, cM, cL, z2, s84_68, s84_75, gT_wI, gR_wI, gL_wI, gS_wI, gU_wI, gI_wI, gJ_wI, gI_wJ, gJ_wJ, gR_wJ, gT_wJ, gL_wJ, gS_wJ, gU_wJ, gI_wR, gJ_wR, gR_wR, gT_wR, gL_wR, gS_wR, gU_wR, wI_wI, wJ_wJ, wR_wR, j_s, j_add, j_addL, j_addR, j_mulL, j_mulR, j_cl, j_clL, j_neg, j_negL, j_nn, j_lt, j_le, j_eq, j_ltL, j_ltR, j_leL, j_leR, j_eqL, j_eqR, j_m1, j_m1L, j_m1R, j_eqLL, j_ltLL, j_leLL, n_le0, n_le1, n_lt0, n_lt1, gc_v, gc_n, ↓reduceIte, and_true, true_and, and_self, or_self, or_false, false_or, not_false_eq_true, not_true_eq_false, false_and, and_false, Nat.reduceAdd, Nat.reduceEqDiff, Nat.reduceLeDiff, Nat.reduceLT]
  · intro i hi x hxx
    try dsimp only
    rw [s84_23]
    rcases hxx with z | ⟨q, z1, z2⟩
    · refine ⟨?_, Or.inr ⟨i, by omega, ?_⟩⟩
      · simp (disch := first | omega | assumption) only [hg.1, x_r2 hg, x_t2 hg, hσ, h145, tA, rA8, tLw, rA9, rA0, tA1, lA1, rA1, tA2, lA2, rA2, tA3, lA3, rA3, tA4, lA4, rA4, tA5, lA5, rA5, tA6, lA6, rA6, tA7, lA7, rA7, tA8, tS, rS0, tS1, lS1, rS1, tS2, lS2, rS2, tS3, lS3, rS3, tS4, lS4, rS4, tS5, lS5, rS5, tS6, lS6, iB, iN, iG, iK, iR, cH, cF, cO, cA, cC, cT, cG, cM, cL, z, s84_50, s84_53, gT_wI, gR_wI, gL_wI, gS_wI, gU_wI, gI_wI, gJ_wI, gI_wJ, gJ_wJ, gR_wJ, gT_wJ, gL_wJ, gS_wJ, gU_wJ, gI_wR, gJ_wR, gR_wR, gT_wR, gL_wR, gS_wR, gU_wR, wI_wI, wJ_wJ, wR_wR, j_s, j_add, j_addL, j_addR, j_mulL, j_mulR, j_cl, j_clL, j_neg, j_negL, j_nn, j_lt, j_le, j_eq, j_ltL, j_ltR, j_leL, j_leR, j_eqL, j_eqR, j_m1, j_m1L, j_m1R, j_eqLL, j_ltLL, j_leLL, n_le0, n_le1, n_lt0, n_lt1, gc_v, gc_n, ↓reduceIte, and_true, true_and, and_self, or_self, or_false, false_or, not_false_eq_true, not_true_eq_false, false_and, and_false, Nat.reduceAdd, Nat.reduceEqDiff, Nat.reduceLeDiff, Nat.reduceLT]
      · rw [z, if_pos rfl]
    · have zm : ¬ x = -1 := by rw [z2, j_m1 (by omega)]; exact fun z => z
      by_cases c2 : dNow D i ≤ dNow D q
      · refine ⟨?_, Or.inr ⟨q, by omega, ?_⟩⟩
        · simp (disch := first | omega | assumption) only [hg.1, x_r2 hg, x_t2 hg, hσ, h145, tA, rA8, tLw, rA9, rA0, tA1, lA1, rA1, tA2, lA2, rA2, tA3, lA3, rA3, tA4, lA4, rA4, tA5, lA5, rA5, tA6, lA6, rA6, tA7, lA7, rA7, tA8, tS, rS0, tS1, lS1, rS1, tS2, lS2, rS2, tS3, lS3, rS3, tS4, lS4, rS4, tS5, lS5, rS5, tS6, lS6, iB, iN, iG, iK, iR, cH, cF, cO, cA, cC, cT, cG, cM, cL, z2, c2, s84_50, s84_53, gT_wI, gR_wI, gL_wI, gS_wI, gU_wI, gI_wI, gJ_wI, gI_wJ, gJ_wJ, gR_wJ, gT_wJ, gL_wJ, gS_wJ, gU_wJ, gI_wR, gJ_wR, gR_wR, gT_wR, gL_wR, gS_wR, gU_wR, wI_wI, wJ_wJ, wR_wR, j_s, j_add, j_addL, j_addR, j_mulL, j_mulR, j_cl, j_clL, j_neg, j_negL, j_nn, j_lt, j_le, j_eq, j_ltL, j_ltR, j_leL, j_leR, j_eqL, j_eqR, j_m1, j_m1L, j_m1R, j_eqLL, j_ltLL, j_leLL, n_le0, n_le1, n_lt0, n_lt1, gc_v, gc_n, ↓reduceIte, and_true, true_and, and_self, or_self, or_false, false_or, not_false_eq_true, not_true_eq_false, false_and, and_false, Nat.reduceAdd, Nat.reduceEqDiff, Nat.reduceLeDiff, Nat.reduceLT]
        · rw [if_neg zm, z2, j_cl (by omega), if_pos c2]
      · refine ⟨?_, Or.inr ⟨i, by omega, ?_⟩⟩
        · simp (disch := first | omega | assumption) only [hg.1, x_r2 hg, x_t2 hg, hσ, h145, tA, rA8, tLw, rA9, rA0, tA1, lA1, rA1, tA2, lA2, rA2, tA3, lA3, rA3, tA4, lA4, rA4, tA5, lA5, rA5, tA6, lA6, rA6, tA7, lA7, rA7, tA8, tS, rS0, tS1, lS1, rS1, tS2, lS2, rS2, tS3, lS3, rS3, tS4, lS4, rS4, tS5, lS5, rS5, tS6, lS6, iB, iN, iG, iK, iR, cH, cF, cO, cA, cC, cT, cG, cM, cL, z2, c2, s84_50, s84_53, gT_wI, gR_wI, gL_wI, gS_wI, gU_wI, gI_wI, gJ_wI, gI_wJ, gJ_wJ, gR_wJ, gT_wJ, gL_wJ, gS_wJ, gU_wJ, gI_wR, gJ_wR, gR_wR, gT_wR, gL_wR, gS_wR, gU_wR, wI_wI, wJ_wJ, wR_wR, j_s, j_add, j_addL, j_addR, j_mulL, j_mulR, j_cl, j_clL, j_neg, j_negL, j_nn, j_lt, j_le, j_eq, j_ltL, j_ltR, j_leL, j_leR, j_eqL, j_eqR, j_m1, j_m1L, j_m1R, j_eqLL, j_ltLL, j_leLL, n_le0, n_le1, n_lt0, n_lt1, gc_v, gc_n, ↓reduceIte, and_true, true_and, and_self, or_self, or_false, false_or, not_false_eq_true, not_true_eq_false, false_and, and_false, Nat.reduceAdd, Nat.reduceEqDiff, Nat.reduceLeDiff, Nat.reduceLT]
        · rw [if_neg zm, z2, j_cl (by omega), if_neg c2]
theorem x84a {D : gdD} {v : Int32} (hv : v < 0 ∨ 1 < v) : XNo 84 [.int v] D 25 := by
  intro d h hd hi hD
  obtain ⟨a, σ, m, h145, hσ, hs, hx, hr, hm, hl, hE, ha, hT9⟩ := hi.nw hD
  have hg := hi.1
  have hz : 4 ≤ gS h := by have := hi.2.2.2.2.2.2.2.2.2.2; omega
  obtain ⟨d, rfl⟩ : ∃ e, d = e + 1 := ⟨d - 1, by omega⟩
  obtain ⟨⟨hA1, hA2, hS1⟩, ⟨tA, rA8, tLw, rA9⟩, ⟨rA0, tA1, lA1⟩, ⟨rA1, tA2, lA2⟩, ⟨rA2, tA3, lA3⟩, ⟨rA3, tA4, lA4⟩, ⟨rA4, tA5, lA5⟩, ⟨rA5, tA6, lA6⟩, ⟨rA6, tA7, lA7⟩, ⟨rA7, tA8⟩, tS, ⟨rS0, tS1, lS1⟩, ⟨rS1, tS2, lS2⟩, ⟨rS2, tS3, lS3⟩, ⟨rS3, tS4, lS4⟩, ⟨rS4, tS5, lS5⟩, ⟨rS5, tS6, lS6⟩⟩ := id hs
  obtain ⟨⟨hB, hN⟩, ⟨iB, iN⟩, iG, iK, iR, cH, cF, cO, cA, cC, cW, cT, cG, cM, cL⟩ := id hx
  rw [r84, s84_0]
  simp (disch := first | omega | assumption) only [hg.1, x_r2 hg, x_t2 hg, hσ, h145, tA, rA8, tLw, rA9, rA0, tA1, lA1, rA1, tA2, lA2, rA2, tA3, lA3, rA3, tA4, lA4, rA4, tA5, lA5, rA5, tA6, lA6, rA6, tA7, lA7, rA7, tA8, tS, rS0, tS1, lS1, rS1, tS2, lS2, rS2, tS3, lS3, rS3, tS4, lS4, rS4, tS5, lS5, rS5, tS6, lS6, iB, iN, iG, iK, iR, cH, cF, cO, cA, cC, cT, cG, cM, cL, sp53n hg hz (d := d) (by omega) hv, gc_x, gx_n (k := 84) (pc := 4) (t := 25) rfl, gT_wI, gR_wI, gL_wI, gS_wI, gU_wI, gI_wI, gJ_wI, gI_wJ, gJ_wJ, gR_wJ, gT_wJ, gL_wJ, gS_wJ, gU_wJ, gI_wR, gJ_wR, gR_wR, gT_wR, gL_wR, gS_wR, gU_wR, wI_wI, wJ_wJ, wR_wR, j_s, j_add, j_addL, j_addR, j_mulL, j_mulR, j_cl, j_clL, j_neg, j_negL, j_nn, j_lt, j_le, j_eq, j_ltL, j_ltR, j_leL, j_leR, j_eqL, j_eqR, j_m1, j_m1L, j_m1R, j_eqLL, j_ltLL, j_leLL, n_le0, n_le1, n_lt0, n_lt1, gc_v, gc_n, ↓reduceIte, and_true, true_and, and_self, or_self, or_false, false_or, not_false_eq_true, not_true_eq_false, false_and, and_false, Nat.reduceAdd, Nat.reduceEqDiff, Nat.reduceLeDiff, Nat.reduceLT]
theorem m267 {D : gdD} {w : Nat} (hw : w ≤ 1) : MOk 267 [.int (Int32.ofNat w)] D (.int (vTall D w)) := by
  intro d h hd hi hD
  obtain ⟨d, rfl⟩ : ∃ e, d = e + 1 := ⟨d - 1, by omega⟩
  obtain ⟨hz, ez, hiz, z0, qz⟩ := hi.z
  have hm := hi.1
  have hmz := hiz.1
  refine ⟨hz, ?_, qz, z0⟩
  have e183 := sp183 hmz z0 (d := d) (by omega) 1 1
  obtain ⟨-, ⟨hB, hN⟩, ⟨iB, iN, iA⟩, iT, iK, iR, i7, -⟩ := id hiz
  have L := lp_p (fun i x => go gd_P0 d 267 26 [.ref 1231, .int (Int32.ofNat w), .int x, .int (Int32.ofNat i)] [] hz) (fun p b => if b = -1 then Int32.ofNat p else if dNow D p ≤ dNow D b.toNatClampNeg then b else Int32.ofNat p) (fun i x => x = -1 ∨ ∃ q, q < i ∧ x = Int32.ofNat q) (eN (dE D)) (-1) (Or.inl rfl) ?_
  · have L1 : go gd_P0 d 267 26 [.ref 1231, .int (Int32.ofNat w), .int (-1), .int 0] [] hz = go gd_P0 d 267 26 [.ref 1231, .int (Int32.ofNat w), .int (pMax (dE D) (dNow D)), .int (Int32.ofNat (eN (dE D)))] [] hz := L.1
    rw [r267, s267_0]
    simp only [hm.t, ez, ↓reduceIte]
    simp (disch := first | omega | assumption) only [sp233 (d := d) (by omega), hmz.t, e183, s267_12, s267_17, i10, gT_wI, gR_wI, gL_wI, gS_wI, gU_wI, gI_wI, gJ_wI, gI_wJ, gJ_wJ, gR_wJ, gT_wJ, gL_wJ, gS_wJ, gU_wJ, gI_wR, gJ_wR, gR_wR, gT_wR, gL_wR, gS_wR, gU_wR, wI_wI, wJ_wJ, wR_wR, j_s, j_add, j_addL, j_addR, j_mulL, j_mulR, j_cl, j_clL, j_neg, j_negL, j_nn, j_lt, j_le, j_eq, j_ltL, j_ltR, j_leL, j_leR, j_eqL, j_eqR, j_m1, j_m1L, j_m1R, j_eqLL, j_ltLL, j_leLL, n_le0, n_le1, n_lt0, n_lt1, gc_v, gc_n, ↓reduceIte, and_true, true_and, and_self, or_self, or_false, false_or, not_false_eq_true, not_true_eq_false, false_and, and_false, Nat.reduceAdd, Nat.reduceEqDiff, Nat.reduceLeDiff, Nat.reduceLT]
    rw [L1, s267_26]
    unfold vTall
    rcases pMax_or (dE D) (dNow D) with z | ⟨q, z1, z2⟩
    · rcases c02 hw with rfl | rfl
      all_goals simp (disch := first | omega | assumption) only [hmz.t, m_r38 hmz, m_t38 hmz, m_l38 hmz, iB, iN, iA, iK, iR, i7, z, s267_75, s267_87, gT_wI, gR_wI, gL_wI, gS_wI, gU_wI, gI_wI, gJ_wI, gI_wJ, gJ_wJ, gR_wJ, gT_wJ, gL_wJ, gS_wJ, gU_wJ, gI_wR, gJ_wR, gR_wR, gT_wR, gL_wR, gS_wR, gU_wR, wI_wI, wJ_wJ, wR_wR, j_s, j_add, j_addL, j_addR, j_mulL, j_mulR, j_cl, j_clL, j_neg, j_negL, j_nn, j_lt, j_le, j_eq, j_ltL, j_ltR, j_leL, j_leR, j_eqL, j_eqR, j_m1, j_m1L, j_m1R, j_eqLL, j_ltLL, j_leLL, n_le0, n_le1, n_lt0, n_lt1, gc_v, gc_n, ↓reduceIte, and_true, true_and, and_self, or_self, or_false, false_or, not_false_eq_true, not_true_eq_false, false_and, and_false, Nat.reduceAdd, Nat.reduceEqDiff, Nat.reduceLeDiff, Nat.reduceLT]
    · rcases c02 hw with rfl | rfl
      all_goals simp (disch := first | omega | assumption) only [hmz.t, m_r38 hmz, m_t38 hmz, m_l38 hmz, iB, iN, iA, iK, iR, i7, z2, s267_75, s267_87, Nat.zero_add, gT_wI, gR_wI, gL_wI, gS_wI, gU_wI, gI_wI, gJ_wI, gI_wJ, gJ_wJ, gR_wJ, gT_wJ, gL_wJ, gS_wJ, gU_wJ, gI_wR, gJ_wR, gR_wR, gT_wR, gL_wR, gS_wR, gU_wR, wI_wI, wJ_wJ, wR_wR, j_s, j_add, j_addL, j_addR, j_mulL, j_mulR, j_cl, j_clL, j_neg, j_negL, j_nn, j_lt, j_le, j_eq, j_ltL, j_ltR, j_leL, j_leR, j_eqL, j_eqR, j_m1, j_m1L, j_m1R, j_eqLL, j_ltLL, j_leLL, n_le0, n_le1, n_lt0, n_lt1, gc_v, gc_n, ↓reduceIte, and_true, true_and, and_self, or_self, or_false, false_or, not_false_eq_true, not_true_eq_false, false_and, and_false, Nat.reduceAdd, Nat.reduceEqDiff, Nat.reduceLeDiff, Nat.reduceLT]
  · intro i hi x hxx
    try dsimp only
    rw [s267_26]
    rcases hxx with z | ⟨q, z1, z2⟩
    · refine ⟨?_, Or.inr ⟨i, by omega, ?_⟩⟩
      · simp (disch := first | omega | assumption) only [hmz.t, m_r38 hmz, m_t38 hmz, m_l38 hmz, iB, iN, iA, iK, iR, i7, z, s267_58, s267_60, gT_wI, gR_wI, gL_wI, gS_wI, gU_wI, gI_wI, gJ_wI, gI_wJ, gJ_wJ, gR_wJ, gT_wJ, gL_wJ, gS_wJ, gU_wJ, gI_wR, gJ_wR, gR_wR, gT_wR, gL_wR, gS_wR, gU_wR, wI_wI, wJ_wJ, wR_wR, j_s, j_add, j_addL, j_addR, j_mulL, j_mulR, j_cl, j_clL, j_neg, j_negL, j_nn, j_lt, j_le, j_eq, j_ltL, j_ltR, j_leL, j_leR, j_eqL, j_eqR, j_m1, j_m1L, j_m1R, j_eqLL, j_ltLL, j_leLL, n_le0, n_le1, n_lt0, n_lt1, gc_v, gc_n, ↓reduceIte, and_true, true_and, and_self, or_self, or_false, false_or, not_false_eq_true, not_true_eq_false, false_and, and_false, Nat.reduceAdd, Nat.reduceEqDiff, Nat.reduceLeDiff, Nat.reduceLT]
      · rw [z, if_pos rfl]
    · have zm : ¬ x = -1 := by rw [z2, j_m1 (by omega)]; exact fun z => z
      by_cases c2 : dNow D i ≤ dNow D q
      · refine ⟨?_, Or.inr ⟨q, by omega, ?_⟩⟩
        · simp (disch := first | omega | assumption) only [hmz.t, m_r38 hmz, m_t38 hmz, m_l38 hmz, iB, iN, iA, iK, iR, i7, z2, c2, s267_58, s267_60, Nat.zero_add, gT_wI, gR_wI, gL_wI, gS_wI, gU_wI, gI_wI, gJ_wI, gI_wJ, gJ_wJ, gR_wJ, gT_wJ, gL_wJ, gS_wJ, gU_wJ, gI_wR, gJ_wR, gR_wR, gT_wR, gL_wR, gS_wR, gU_wR, wI_wI, wJ_wJ, wR_wR, j_s, j_add, j_addL, j_addR, j_mulL, j_mulR, j_cl, j_clL, j_neg, j_negL, j_nn, j_lt, j_le, j_eq, j_ltL, j_ltR, j_leL, j_leR, j_eqL, j_eqR, j_m1, j_m1L, j_m1R, j_eqLL, j_ltLL, j_leLL, n_le0, n_le1, n_lt0, n_lt1, gc_v, gc_n, ↓reduceIte, and_true, true_and, and_self, or_self, or_false, false_or, not_false_eq_true, not_true_eq_false, false_and, and_false, Nat.reduceAdd, Nat.reduceEqDiff, Nat.reduceLeDiff, Nat.reduceLT]
        · rw [if_neg zm, z2, j_cl (by omega), if_pos c2]
      · refine ⟨?_, Or.inr ⟨i, by omega, ?_⟩⟩
        · simp (disch := first | omega | assumption) only [hmz.t, m_r38 hmz, m_t38 hmz, m_l38 hmz, iB, iN, iA, iK, iR, i7, z2, c2, s267_58, s267_60, Nat.zero_add, gT_wI, gR_wI, gL_wI, gS_wI, gU_wI, gI_wI, gJ_wI, gI_wJ, gJ_wJ, gR_wJ, gT_wJ, gL_wJ, gS_wJ, gU_wJ, gI_wR, gJ_wR, gR_wR, gT_wR, gL_wR, gS_wR, gU_wR, wI_wI, wJ_wJ, wR_wR, j_s, j_add, j_addL, j_addR, j_mulL, j_mulR, j_cl, j_clL, j_neg, j_negL, j_nn, j_lt, j_le, j_eq, j_ltL, j_ltR, j_leL, j_leR, j_eqL, j_eqR, j_m1, j_m1L, j_m1R, j_eqLL, j_ltLL, j_leLL, n_le0, n_le1, n_lt0, n_lt1, gc_v, gc_n, ↓reduceIte, and_true, true_and, and_self, or_self, or_false, false_or, not_false_eq_true, not_true_eq_false, false_and, and_false, Nat.reduceAdd, Nat.reduceEqDiff, Nat.reduceLeDiff, Nat.reduceLT]
        · rw [if_neg zm, z2, j_cl (by omega), if_neg c2]
theorem m267a {D : gdD} {v : Int32} (hv : v < 0 ∨ 1 < v) : MNo 267 [.int v] D 25 1 (.int 0) := by
  intro d h hd hi hD
  obtain ⟨d, rfl⟩ : ∃ e, d = e + 1 := ⟨d - 1, by omega⟩
  obtain ⟨hz, ez, hiz, z0, qz⟩ := hi.z
  have hm := hi.1
  have hmz := hiz.1
  have e183 := sp183n hmz z0 (d := d) (by omega) (c := 1) (by decide) 25 (by omega) (by omega)
  have c0 : (if v < 0 then (0 : Int32) else if 1 < v then 0 else 1) = 0 := by
    rcases hv with h1 | h1
    · rw [if_pos h1]
    · by_cases h2 : v < 0
      · rw [if_pos h2]
      · rw [if_neg h2, if_pos h1]
  rw [r267, s267_0]
  simp only [hm.t, ez, sp233 (d := d) (by omega), c0, gc_v, s267_12, hmz.t, ↓reduceIte]
  refine Eq.trans (congrArg (gc gd_P0 d 267 _ _ _ _) e183) ?_
  rw [gc_v, s267_17]
  subst ez
  rw [mthr_z]
  rfl
theorem bt31 (x : Int32) : bt x 31 = decide (x < 0) := by
  unfold bt
  have e : x.toBitVec.getLsbD 31 = x.toBitVec.msb := (BitVec.msb_eq_getLsbD_last x.toBitVec).symm
  rw [e, BitVec.msb_eq_toInt]
  congr 1
  exact propext (Int32.lt_iff_toInt_lt (x := x) (y := 0)).symm
/-- the sign of an int -/
theorem sgn_v (v : Int32) : (v >>> ((31 : Int32) &&& 31)) ||| (((-v).toUInt32 >>> ((31 : Int32).toUInt32 &&& Int32.toUInt32 31)).toInt32) = if v < 0 then -1 else if v = 0 then 0 else 1 := by
  have h1 : ∀ i, i < 32 → bt (v >>> ((31 : Int32) &&& 31)) i = decide (v < 0) := fun i hi => by
    rw [show bt (v >>> ((31 : Int32) &&& 31)) i = _ from b_sshr 31 (by omega) v hi, bt31]
    split
    next h => rw [show 31 + i = 31 by omega, bt31]
    next => rfl
  have h2 : ∀ i, i < 32 → bt (((-v).toUInt32 >>> ((31 : Int32).toUInt32 &&& Int32.toUInt32 31)).toInt32) i = (decide (i = 0) && decide (-v < 0)) := fun i hi => by
    rw [show bt (((-v).toUInt32 >>> ((31 : Int32).toUInt32 &&& Int32.toUInt32 31)).toInt32) i = _ from b_ushr 31 (by omega) (-v) i]
    by_cases c : i = 0
    · rw [c, decide_eq_true rfl, Bool.true_and, Nat.add_zero, bt31]
    · rw [b_big (by omega), decide_eq_false c, Bool.false_and]
  refine b_ext fun i hi => ?_
  rw [b_or, h1 i hi, h2 i hi]
  by_cases c : v < 0
  · rw [if_pos c, decide_eq_true c, Bool.true_or, b_m1 i hi]
  · rw [if_neg c, decide_eq_false c, Bool.false_or]
    by_cases c2 : v = 0
    · rw [if_pos c2, c2, show decide (-(0 : Int32) < 0) = false from by decide, Bool.and_false, b_0]
    · rw [if_neg c2, b_1 i hi]
      have h3 : -v < 0 := by
        rw [Int32.lt_iff_toInt_lt, Int32.toInt_zero] at c ⊢
        have h4 : v.toInt ≠ 0 := fun z => c2 (Int32.toInt_inj.mp (z.trans Int32.toInt_zero.symm))
        have h5 := v.toInt_lt
        rw [Int32.toInt_neg, Int.bmod_eq_of_le (by omega) (by omega)]
        omega
      rw [decide_eq_true h3, Bool.and_true]
def vGain (D : gdD) (w : Nat) : Int32 := pBits (fun p => !decide (dNow D (14 + p) = -1) && (if w = 0 then decide (0 < pGain (dNow D) p) else if w = 1 then decide (pGain (dNow D) p = 0) else decide (pGain (dNow D) p < 0))) (eN (dE D))
theorem x85 {D : gdD} {w : Nat} (hw : w ≤ 2) : XOk 85 [.int (Int32.ofNat w)] D (.int (vGain D w)) := by
  intro d h hd hi hD
  obtain ⟨a, σ, m, h145, hσ, hs, hx, hr, hm, hl, hE, ha, hT9⟩ := hi.nw hD
  have hg := hi.1
  have hz : 4 ≤ gS h := by have := hi.2.2.2.2.2.2.2.2.2.2; omega
  obtain ⟨d, rfl⟩ : ∃ e, d = e + 1 := ⟨d - 1, by omega⟩
  obtain ⟨⟨hA1, hA2, hS1⟩, ⟨tA, rA8, tLw, rA9⟩, ⟨rA0, tA1, lA1⟩, ⟨rA1, tA2, lA2⟩, ⟨rA2, tA3, lA3⟩, ⟨rA3, tA4, lA4⟩, ⟨rA4, tA5, lA5⟩, ⟨rA5, tA6, lA6⟩, ⟨rA6, tA7, lA7⟩, ⟨rA7, tA8⟩, tS, ⟨rS0, tS1, lS1⟩, ⟨rS1, tS2, lS2⟩, ⟨rS2, tS3, lS3⟩, ⟨rS3, tS4, lS4⟩, ⟨rS4, tS5, lS5⟩, ⟨rS5, tS6, lS6⟩⟩ := id hs
  obtain ⟨⟨hB, hN⟩, ⟨iB, iN⟩, iG, iK, iR, cH, cF, cO, cA, cC, cW, cT, cG, cM, cL⟩ := id hx
  refine ⟨h, ?_, XQ.refl h⟩
  have e53 := sp53 hg (d := d) (by omega) (v := Int32.ofNat w) (lo := 0) (hi := 2) (by rw [j_neg (by omega)]; exact fun z => z) (by rw [j_ltL (by omega) (by omega)]; omega)
  have L := lp_f (fun i x => go gd_P0 d 85 20 [.ref 96, .int (Int32.ofNat w), .ref a, .int x, .int (Int32.ofNat i)] [] h) (fun p b => if (!decide (dNow D (14 + p) = -1) && (if w = 0 then decide (0 < pGain (dNow D) p) else if w = 1 then decide (pGain (dNow D) p = 0) else decide (pGain (dNow D) p < 0))) = true then b ||| ((1 : Int32) <<< (Int32.ofNat p &&& 31)) else b) (eN (dE D)) 0 ?_
  · rw [r85, s85_0]
    simp (disch := first | omega | assumption) only [hg.1, x_r2 hg, x_t2 hg, hσ, h145, tA, rA8, tLw, rA9, rA0, tA1, lA1, rA1, tA2, lA2, rA2, tA3, lA3, rA3, tA4, lA4, rA4, tA5, lA5, rA5, tA6, lA6, rA6, tA7, lA7, rA7, tA8, tS, rS0, tS1, lS1, rS1, tS2, lS2, rS2, tS3, lS3, rS3, tS4, lS4, rS4, tS5, lS5, rS5, tS6, lS6, iB, iN, iG, iK, iR, cH, cF, cO, cA, cC, cT, cG, cM, cL, e53, s85_7, s85_14, gT_wI, gR_wI, gL_wI, gS_wI, gU_wI, gI_wI, gJ_wI, gI_wJ, gJ_wJ, gR_wJ, gT_wJ, gL_wJ, gS_wJ, gU_wJ, gI_wR, gJ_wR, gR_wR, gT_wR, gL_wR, gS_wR, gU_wR, wI_wI, wJ_wJ, wR_wR, j_s, j_add, j_addL, j_addR, j_mulL, j_mulR, j_cl, j_clL, j_neg, j_negL, j_nn, j_lt, j_le, j_eq, j_ltL, j_ltR, j_leL, j_leR, j_eqL, j_eqR, j_m1, j_m1L, j_m1R, j_eqLL, j_ltLL, j_leLL, n_le0, n_le1, n_lt0, n_lt1, gc_v, gc_n, ↓reduceIte, and_true, true_and, and_self, or_self, or_false, false_or, not_false_eq_true, not_true_eq_false, false_and, and_false, Nat.reduceAdd, Nat.reduceEqDiff, Nat.reduceLeDiff, Nat.reduceLT]
    refine Eq.trans L ?_
    try dsimp only
    rw [s85_20]
    simp (disch := first | omega | assumption) only [hg.1, x_r2 hg, x_t2 hg, hσ, h145, tA, rA8, tLw, rA9, rA0, tA1, lA1, rA1, tA2, lA2, rA2, tA3, lA3, rA3, tA4, lA4, rA4, tA5, lA5, rA5, tA6, lA6, rA6, tA7, lA7, rA7, tA8, tS, rS0, tS1, lS1, rS1, tS2, lS2, rS2, tS3, lS3, rS3, tS4, lS4, rS4, tS5, lS5, rS5, tS6, lS6, iB, iN, iG, iK, iR, cH, cF, cO, cA, cC, cT, cG, cM, cL, gT_wI, gR_wI, gL_wI, gS_wI, gU_wI, gI_wI, gJ_wI, gI_wJ, gJ_wJ, gR_wJ, gT_wJ, gL_wJ, gS_wJ, gU_wJ, gI_wR, gJ_wR, gR_wR, gT_wR, gL_wR, gS_wR, gU_wR, wI_wI, wJ_wJ, wR_wR, j_s, j_add, j_addL, j_addR, j_mulL, j_mulR, j_cl, j_clL, j_neg, j_negL, j_nn, j_lt, j_le, j_eq, j_ltL, j_ltR, j_leL, j_leR, j_eqL, j_eqR, j_m1, j_m1L, j_m1R, j_eqLL, j_ltLL, j_leLL, n_le0, n_le1, n_lt0, n_lt1, gc_v, gc_n, ↓reduceIte, and_true, true_and, and_self, or_self, or_false, false_or, not_false_eq_true, not_true_eq_false, false_and, and_false, Nat.reduceAdd, Nat.reduceEqDiff, Nat.reduceLeDiff, Nat.reduceLT]
    rfl
  · intro i hi x
    try dsimp only
    have e4 : run gd_P0 d 4 [.int (pGain (dNow D) i)] h = some (.inl (some (.int (if pGain (dNow D) i < 0 then -1 else if pGain (dNow D) i = 0 then 0 else 1))), h) := by
      obtain ⟨d, rfl⟩ : ∃ e, d = e + 1 := ⟨d - 1, by omega⟩
      rw [r4, s4_0, sgn_v]
    rw [s85_20]
    by_cases q : dNow D (14 + i) = -1
    · simp (disch := first | omega | assumption) only [hg.1, x_r2 hg, x_t2 hg, hσ, h145, tA, rA8, tLw, rA9, rA0, tA1, lA1, rA1, tA2, lA2, rA2, tA3, lA3, rA3, tA4, lA4, rA4, tA5, lA5, rA5, tA6, lA6, rA6, tA7, lA7, rA7, tA8, tS, rS0, tS1, lS1, rS1, tS2, lS2, rS2, tS3, lS3, rS3, tS4, lS4, rS4, tS5, lS5, rS5, tS6, lS6, iB, iN, iG, iK, iR, cH, cF, cO, cA, cC, cT, cG, cM, cL, q, s85_65, decide_true, decide_false, Bool.not_true, Bool.not_false, Bool.false_eq_true, Bool.true_and, Bool.false_and, Bool.and_true, Bool.and_false, Int32.or_zero, gT_wI, gR_wI, gL_wI, gS_wI, gU_wI, gI_wI, gJ_wI, gI_wJ, gJ_wJ, gR_wJ, gT_wJ, gL_wJ, gS_wJ, gU_wJ, gI_wR, gJ_wR, gR_wR, gT_wR, gL_wR, gS_wR, gU_wR, wI_wI, wJ_wJ, wR_wR, j_s, j_add, j_addL, j_addR, j_mulL, j_mulR, j_cl, j_clL, j_neg, j_negL, j_nn, j_lt, j_le, j_eq, j_ltL, j_ltR, j_leL, j_leR, j_eqL, j_eqR, j_m1, j_m1L, j_m1R, j_eqLL, j_ltLL, j_leLL, n_le0, n_le1, n_lt0, n_lt1, gc_v, gc_n, ↓reduceIte, and_true, true_and, and_self, or_self, or_false, false_or, not_false_eq_true, not_true_eq_false, false_and, and_false, Nat.reduceAdd, Nat.reduceEqDiff, Nat.reduceLeDiff, Nat.reduceLT]
    · simp (disch := first | omega | assumption) only [hg.1, x_r2 hg, x_t2 hg, hσ, h145, tA, rA8, tLw, rA9, rA0, tA1, lA1, rA1, tA2, lA2, rA2, tA3, lA3, rA3, tA4, lA4, rA4, tA5, lA5, rA5, tA6, lA6, rA6, tA7, lA7, rA7, tA8, tS, rS0, tS1, lS1, rS1, tS2, lS2, rS2, tS3, lS3, rS3, tS4, lS4, rS4, tS5, lS5, rS5, tS6, lS6, iB, iN, iG, iK, iR, cH, cF, cO, cA, cC, cT, cG, cM, cL, q, sp155 (d := d) (by omega) hs hx hr, s85_49, e4, s85_52, s85_65, decide_true, decide_false, Bool.not_true, Bool.not_false, Bool.false_eq_true, Bool.true_and, Bool.false_and, Bool.and_true, Bool.and_false, Int32.or_zero, gT_wI, gR_wI, gL_wI, gS_wI, gU_wI, gI_wI, gJ_wI, gI_wJ, gJ_wJ, gR_wJ, gT_wJ, gL_wJ, gS_wJ, gU_wJ, gI_wR, gJ_wR, gR_wR, gT_wR, gL_wR, gS_wR, gU_wR, wI_wI, wJ_wJ, wR_wR, j_s, j_add, j_addL, j_addR, j_mulL, j_mulR, j_cl, j_clL, j_neg, j_negL, j_nn, j_lt, j_le, j_eq, j_ltL, j_ltR, j_leL, j_leR, j_eqL, j_eqR, j_m1, j_m1L, j_m1R, j_eqLL, j_ltLL, j_leLL, n_le0, n_le1, n_lt0, n_lt1, gc_v, gc_n, ↓reduceIte, and_true, true_and, and_self, or_self, or_false, false_or, not_false_eq_true, not_true_eq_false, false_and, and_false, Nat.reduceAdd, Nat.reduceEqDiff, Nat.reduceLeDiff, Nat.reduceLT]
      by_cases c1 : pGain (dNow D) i < 0
      · have c2 : ¬ 0 < pGain (dNow D) i := fun z => absurd (Int32.lt_trans z c1) Int32.lt_irrefl
        have c3 : ¬ pGain (dNow D) i = 0 := fun z => by rw [z] at c1; exact absurd c1 Int32.lt_irrefl
        rcases c03 hw with rfl | rfl | rfl
        all_goals simp [c1, c2, c3]
      · by_cases c3 : pGain (dNow D) i = 0
        · rcases c03 hw with rfl | rfl | rfl
          all_goals simp [c3]
        · have c2 : 0 < pGain (dNow D) i := Int32.lt_of_le_of_ne (Int32.not_lt.mp c1) (fun z => c3 z.symm)
          rcases c03 hw with rfl | rfl | rfl
          all_goals simp [c1, c2, c3]
theorem x85a {D : gdD} {v : Int32} (hv : v < 0 ∨ 2 < v) : XNo 85 [.int v] D 25 := by
  intro d h hd hi hD
  obtain ⟨a, σ, m, h145, hσ, hs, hx, hr, hm, hl, hE, ha, hT9⟩ := hi.nw hD
  have hg := hi.1
  have hz : 4 ≤ gS h := by have := hi.2.2.2.2.2.2.2.2.2.2; omega
  obtain ⟨d, rfl⟩ : ∃ e, d = e + 1 := ⟨d - 1, by omega⟩
  obtain ⟨⟨hA1, hA2, hS1⟩, ⟨tA, rA8, tLw, rA9⟩, ⟨rA0, tA1, lA1⟩, ⟨rA1, tA2, lA2⟩, ⟨rA2, tA3, lA3⟩, ⟨rA3, tA4, lA4⟩, ⟨rA4, tA5, lA5⟩, ⟨rA5, tA6, lA6⟩, ⟨rA6, tA7, lA7⟩, ⟨rA7, tA8⟩, tS, ⟨rS0, tS1, lS1⟩, ⟨rS1, tS2, lS2⟩, ⟨rS2, tS3, lS3⟩, ⟨rS3, tS4, lS4⟩, ⟨rS4, tS5, lS5⟩, ⟨rS5, tS6, lS6⟩⟩ := id hs
  obtain ⟨⟨hB, hN⟩, ⟨iB, iN⟩, iG, iK, iR, cH, cF, cO, cA, cC, cW, cT, cG, cM, cL⟩ := id hx
  rw [r85, s85_0]
  simp (disch := first | omega | assumption) only [hg.1, x_r2 hg, x_t2 hg, hσ, h145, tA, rA8, tLw, rA9, rA0, tA1, lA1, rA1, tA2, lA2, rA2, tA3, lA3, rA3, tA4, lA4, rA4, tA5, lA5, rA5, tA6, lA6, rA6, tA7, lA7, rA7, tA8, tS, rS0, tS1, lS1, rS1, tS2, lS2, rS2, tS3, lS3, rS3, tS4, lS4, rS4, tS5, lS5, rS5, tS6, lS6, iB, iN, iG, iK, iR, cH, cF, cO, cA, cC, cT, cG, cM, cL, sp53n hg hz (d := d) (by omega) hv, gc_x, gx_n (k := 85) (pc := 4) (t := 25) rfl, gT_wI, gR_wI, gL_wI, gS_wI, gU_wI, gI_wI, gJ_wI, gI_wJ, gJ_wJ, gR_wJ, gT_wJ, gL_wJ, gS_wJ, gU_wJ, gI_wR, gJ_wR, gR_wR, gT_wR, gL_wR, gS_wR, gU_wR, wI_wI, wJ_wJ, wR_wR, j_s, j_add, j_addL, j_addR, j_mulL, j_mulR, j_cl, j_clL, j_neg, j_negL, j_nn, j_lt, j_le, j_eq, j_ltL, j_ltR, j_leL, j_leR, j_eqL, j_eqR, j_m1, j_m1L, j_m1R, j_eqLL, j_ltLL, j_leLL, n_le0, n_le1, n_lt0, n_lt1, gc_v, gc_n, ↓reduceIte, and_true, true_and, and_self, or_self, or_false, false_or, not_false_eq_true, not_true_eq_false, false_and, and_false, Nat.reduceAdd, Nat.reduceEqDiff, Nat.reduceLeDiff, Nat.reduceLT]
theorem m268 {D : gdD} {w : Nat} (hw : w ≤ 2) : MOk 268 [.int (Int32.ofNat w)] D (.int (vGain D w)) := by
  intro d h hd hi hD
  obtain ⟨d, rfl⟩ : ∃ e, d = e + 1 := ⟨d - 1, by omega⟩
  obtain ⟨hz, ez, hiz, z0, qz⟩ := hi.z
  have hm := hi.1
  have hmz := hiz.1
  obtain ⟨ht, et, hit, zt, qt, hx, hmt⟩ : ∃ ht, wI hz (tk (gI hz)) = ht ∧ MI ht D ∧ gI ht 1231 0 = 0 ∧ MZ hz ht ∧ MC (gI ht) (dE D) (-1) (dNow D) ∧ MS ht := ⟨_, rfl, hiz.mz (MZ.tk hz), by rw [gI_wI, tk_ne (by decide)]; exact z0, MZ.tk hz, hiz.tk, hmz⟩
  obtain ⟨m, hm4, hr⟩ := hD.2.1 (dW D) (Nat.le_refl _)
  obtain ⟨⟨hB, hN⟩, ⟨iB, iN, iA⟩, iG, iK, iR, cS⟩ := id hx
  have e211 := sp211 hmz (d := d) (by omega)
  rw [et] at e211
  obtain ⟨-, -, -, jT, -, -, -, -, -, -, -, -, jb, js, -⟩ := id hit
  refine ⟨ht, ?_, qz.trans qt, zt⟩
  have e183 := sp183 hmz z0 (d := d) (by omega) 1 1
  have L := lp_f (fun i x => go gd_P0 d 268 30 [.ref 1231, .int (Int32.ofNat w), .int x, .int (Int32.ofNat i), .null, .null] [] ht) (fun p b => if (!decide (dNow D (14 + p) = -1) && (if w = 0 then decide (0 < pGain (dNow D) p) else if w = 1 then decide (pGain (dNow D) p = 0) else decide (pGain (dNow D) p < 0))) = true then b ||| ((1 : Int32) <<< (Int32.ofNat p &&& 31)) else b) (eN (dE D)) 0 ?_
  · rw [r268, s268_0]
    simp only [hm.t, ez, ↓reduceIte]
    simp (disch := first | omega | assumption) only [sp233 (d := d) (by omega), hmz.t, e183, s268_12, s268_17, i10, e211, s268_26, gT_wI, gR_wI, gL_wI, gS_wI, gU_wI, gI_wI, gJ_wI, gI_wJ, gJ_wJ, gR_wJ, gT_wJ, gL_wJ, gS_wJ, gU_wJ, gI_wR, gJ_wR, gR_wR, gT_wR, gL_wR, gS_wR, gU_wR, wI_wI, wJ_wJ, wR_wR, j_s, j_add, j_addL, j_addR, j_mulL, j_mulR, j_cl, j_clL, j_neg, j_negL, j_nn, j_lt, j_le, j_eq, j_ltL, j_ltR, j_leL, j_leR, j_eqL, j_eqR, j_m1, j_m1L, j_m1R, j_eqLL, j_ltLL, j_leLL, n_le0, n_le1, n_lt0, n_lt1, gc_v, gc_n, ↓reduceIte, and_true, true_and, and_self, or_self, or_false, false_or, not_false_eq_true, not_true_eq_false, false_and, and_false, Nat.reduceAdd, Nat.reduceEqDiff, Nat.reduceLeDiff, Nat.reduceLT]
    refine Eq.trans L ?_
    try dsimp only
    rw [s268_30]
    simp (disch := first | omega | assumption) only [hm.t, m_r39 hm, m_t39 hm, m_l39 hm, hmt.t, m_r39 hmt, m_t39 hmt, m_l39 hmt, iB, iN, iA, iG, iK, iR, cS, gT_wI, gR_wI, gL_wI, gS_wI, gU_wI, gI_wI, gJ_wI, gI_wJ, gJ_wJ, gR_wJ, gT_wJ, gL_wJ, gS_wJ, gU_wJ, gI_wR, gJ_wR, gR_wR, gT_wR, gL_wR, gS_wR, gU_wR, wI_wI, wJ_wJ, wR_wR, j_s, j_add, j_addL, j_addR, j_mulL, j_mulR, j_cl, j_clL, j_neg, j_negL, j_nn, j_lt, j_le, j_eq, j_ltL, j_ltR, j_leL, j_leR, j_eqL, j_eqR, j_m1, j_m1L, j_m1R, j_eqLL, j_ltLL, j_leLL, n_le0, n_le1, n_lt0, n_lt1, gc_v, gc_n, ↓reduceIte, and_true, true_and, and_self, or_self, or_false, false_or, not_false_eq_true, not_true_eq_false, false_and, and_false, Nat.reduceAdd, Nat.reduceEqDiff, Nat.reduceLeDiff, Nat.reduceLT]
    rfl
  · intro i hi x
    try dsimp only
    rw [s268_30]
    by_cases q : dNow D (14 + i) = -1
    · have g0 : pGain (dNow D) i = 0 := by unfold pGain; rw [if_pos q]
      rcases c03 hw with rfl | rfl | rfl
      all_goals simp (disch := first | omega | assumption) only [hm.t, m_r39 hm, m_t39 hm, m_l39 hm, hmt.t, m_r39 hmt, m_t39 hmt, m_l39 hmt, iB, iN, iA, iG, iK, iR, cS, q, g0, sp222 (d := d) (by omega) hmt hx hr, s268_43, s268_90, s268_117, s268_118, i10, decide_true, decide_false, Bool.not_true, Bool.not_false, Bool.false_eq_true, Bool.true_and, Bool.false_and, Bool.and_true, Bool.and_false, Int32.or_zero, gT_wI, gR_wI, gL_wI, gS_wI, gU_wI, gI_wI, gJ_wI, gI_wJ, gJ_wJ, gR_wJ, gT_wJ, gL_wJ, gS_wJ, gU_wJ, gI_wR, gJ_wR, gR_wR, gT_wR, gL_wR, gS_wR, gU_wR, wI_wI, wJ_wJ, wR_wR, j_s, j_add, j_addL, j_addR, j_mulL, j_mulR, j_cl, j_clL, j_neg, j_negL, j_nn, j_lt, j_le, j_eq, j_ltL, j_ltR, j_leL, j_leR, j_eqL, j_eqR, j_m1, j_m1L, j_m1R, j_eqLL, j_ltLL, j_leLL, n_le0, n_le1, n_lt0, n_lt1, gc_v, gc_n, ↓reduceIte, and_true, true_and, and_self, or_self, or_false, false_or, not_false_eq_true, not_true_eq_false, false_and, and_false, Nat.reduceAdd, Nat.reduceEqDiff, Nat.reduceLeDiff, Nat.reduceLT]
    · by_cases c1 : pGain (dNow D) i < 0
      · have c2 : ¬ 0 < pGain (dNow D) i := fun z => absurd (Int32.lt_trans z c1) Int32.lt_irrefl
        have c3 : ¬ pGain (dNow D) i = 0 := fun z => by rw [z] at c1; exact absurd c1 Int32.lt_irrefl
        have c4 : pGain (dNow D) i ≤ 0 := Int32.not_lt.mp c2
        have c5 : ¬ 0 ≤ pGain (dNow D) i := Int32.not_le.mpr c1
        rcases c03 hw with rfl | rfl | rfl
        all_goals simp (disch := first | omega | assumption) only [hm.t, m_r39 hm, m_t39 hm, m_l39 hm, hmt.t, m_r39 hmt, m_t39 hmt, m_l39 hmt, iB, iN, iA, iG, iK, iR, cS, q, c1, c2, c3, c4, c5, sp222 (d := d) (by omega) hmt hx hr, s268_43, s268_90, s268_117, s268_118, i10, decide_true, decide_false, Bool.not_true, Bool.not_false, Bool.false_eq_true, Bool.true_and, Bool.false_and, Bool.and_true, Bool.and_false, Int32.or_zero, gT_wI, gR_wI, gL_wI, gS_wI, gU_wI, gI_wI, gJ_wI, gI_wJ, gJ_wJ, gR_wJ, gT_wJ, gL_wJ, gS_wJ, gU_wJ, gI_wR, gJ_wR, gR_wR, gT_wR, gL_wR, gS_wR, gU_wR, wI_wI, wJ_wJ, wR_wR, j_s, j_add, j_addL, j_addR, j_mulL, j_mulR, j_cl, j_clL, j_neg, j_negL, j_nn, j_lt, j_le, j_eq, j_ltL, j_ltR, j_leL, j_leR, j_eqL, j_eqR, j_m1, j_m1L, j_m1R, j_eqLL, j_ltLL, j_leLL, n_le0, n_le1, n_lt0, n_lt1, gc_v, gc_n, ↓reduceIte, and_true, true_and, and_self, or_self, or_false, false_or, not_false_eq_true, not_true_eq_false, false_and, and_false, Nat.reduceAdd, Nat.reduceEqDiff, Nat.reduceLeDiff, Nat.reduceLT]
      · by_cases c3 : pGain (dNow D) i = 0
        · rcases c03 hw with rfl | rfl | rfl
          all_goals simp (disch := first | omega | assumption) only [hm.t, m_r39 hm, m_t39 hm, m_l39 hm, hmt.t, m_r39 hmt, m_t39 hmt, m_l39 hmt, iB, iN, iA, iG, iK, iR, cS, q, c3, sp222 (d := d) (by omega) hmt hx hr, s268_43, s268_90, s268_117, s268_118, i10, decide_true, decide_false, Bool.not_true, Bool.not_false, Bool.false_eq_true, Bool.true_and, Bool.false_and, Bool.and_true, Bool.and_false, Int32.or_zero, gT_wI, gR_wI, gL_wI, gS_wI, gU_wI, gI_wI, gJ_wI, gI_wJ, gJ_wJ, gR_wJ, gT_wJ, gL_wJ, gS_wJ, gU_wJ, gI_wR, gJ_wR, gR_wR, gT_wR, gL_wR, gS_wR, gU_wR, wI_wI, wJ_wJ, wR_wR, j_s, j_add, j_addL, j_addR, j_mulL, j_mulR, j_cl, j_clL, j_neg, j_negL, j_nn, j_lt, j_le, j_eq, j_ltL, j_ltR, j_leL, j_leR, j_eqL, j_eqR, j_m1, j_m1L, j_m1R, j_eqLL, j_ltLL, j_leLL, n_le0, n_le1, n_lt0, n_lt1, gc_v, gc_n, ↓reduceIte, and_true, true_and, and_self, or_self, or_false, false_or, not_false_eq_true, not_true_eq_false, false_and, and_false, Nat.reduceAdd, Nat.reduceEqDiff, Nat.reduceLeDiff, Nat.reduceLT]
        · have c2 : 0 < pGain (dNow D) i := Int32.lt_of_le_of_ne (Int32.not_lt.mp c1) (fun z => c3 z.symm)
          have c4 : ¬ pGain (dNow D) i ≤ 0 := Int32.not_le.mpr c2
          have c5 : 0 ≤ pGain (dNow D) i := Int32.not_lt.mp c1
          rcases c03 hw with rfl | rfl | rfl
          all_goals simp (disch := first | omega | assumption) only [hm.t, m_r39 hm, m_t39 hm, m_l39 hm, hmt.t, m_r39 hmt, m_t39 hmt, m_l39 hmt, iB, iN, iA, iG, iK, iR, cS, q, c1, c2, c3, c4, c5, sp222 (d := d) (by omega) hmt hx hr, s268_43, s268_90, s268_117, s268_118, i10, decide_true, decide_false, Bool.not_true, Bool.not_false, Bool.false_eq_true, Bool.true_and, Bool.false_and, Bool.and_true, Bool.and_false, Int32.or_zero, gT_wI, gR_wI, gL_wI, gS_wI, gU_wI, gI_wI, gJ_wI, gI_wJ, gJ_wJ, gR_wJ, gT_wJ, gL_wJ, gS_wJ, gU_wJ, gI_wR, gJ_wR, gR_wR, gT_wR, gL_wR, gS_wR, gU_wR, wI_wI, wJ_wJ, wR_wR, j_s, j_add, j_addL, j_addR, j_mulL, j_mulR, j_cl, j_clL, j_neg, j_negL, j_nn, j_lt, j_le, j_eq, j_ltL, j_ltR, j_leL, j_leR, j_eqL, j_eqR, j_m1, j_m1L, j_m1R, j_eqLL, j_ltLL, j_leLL, n_le0, n_le1, n_lt0, n_lt1, gc_v, gc_n, ↓reduceIte, and_true, true_and, and_self, or_self, or_false, false_or, not_false_eq_true, not_true_eq_false, false_and, and_false, Nat.reduceAdd, Nat.reduceEqDiff, Nat.reduceLeDiff, Nat.reduceLT]
theorem m268a {D : gdD} {v : Int32} (hv : v < 0 ∨ 2 < v) : MNo 268 [.int v] D 25 1 (.int 0) := by
  intro d h hd hi hD
  obtain ⟨d, rfl⟩ : ∃ e, d = e + 1 := ⟨d - 1, by omega⟩
  obtain ⟨hz, ez, hiz, z0, qz⟩ := hi.z
  have hm := hi.1
  have hmz := hiz.1
  have e183 := sp183n hmz z0 (d := d) (by omega) (c := 1) (by decide) 25 (by omega) (by omega)
  have c0 : (if v < 0 then (0 : Int32) else if 2 < v then 0 else 1) = 0 := by
    rcases hv with h1 | h1
    · rw [if_pos h1]
    · by_cases h2 : v < 0
      · rw [if_pos h2]
      · rw [if_neg h2, if_pos h1]
  rw [r268, s268_0]
  simp only [hm.t, ez, sp233 (d := d) (by omega), c0, gc_v, s268_12, hmz.t, ↓reduceIte]
  refine Eq.trans (congrArg (gc gd_P0 d 268 _ _ _ _) e183) ?_
  rw [gc_v, s268_17]
  subst ez
  rw [mthr_z]
  rfl
def pDry (E : gdE) : Int32 := fo (fun i b => if eR E b.toNatClampNeg ≤ eR E (i + 1) then b else Int32.ofNat (i + 1)) 11 0
def vDry (D : gdD) (w : Nat) : Int32 := if w = 0 then pDry (dE D) else eR (dE D) (pDry (dE D)).toNatClampNeg
theorem pDry_ex (E : gdE) : ∃ q, q < 12 ∧ pDry E = Int32.ofNat q := by
  have h := fo_ind (f := fun i b => if eR E b.toNatClampNeg ≤ eR E (i + 1) then b else Int32.ofNat (i + 1)) (n := 11) (a := (0 : Int32)) (fun i x => ∃ q, q < i + 1 ∧ x = Int32.ofNat q) ⟨0, by omega, rfl⟩ (by
    intro i x hi ⟨q, h1, h2⟩
    try dsimp only
    split
    · exact ⟨q, by omega, h2⟩
    · exact ⟨i + 1, by omega, rfl⟩)
  exact h
theorem x90 {D : gdD} {w : Nat} (hw : w ≤ 1) : XOk 90 [.int (Int32.ofNat w)] D (.int (vDry D w)) := by
  intro d h hd hi hD
  obtain ⟨a, σ, m, h145, hσ, hs, hx, hr, hm, hl, hE, ha, hT9⟩ := hi.nw hD
  have hg := hi.1
  have hz : 4 ≤ gS h := by have := hi.2.2.2.2.2.2.2.2.2.2; omega
  obtain ⟨d, rfl⟩ : ∃ e, d = e + 1 := ⟨d - 1, by omega⟩
  obtain ⟨⟨hA1, hA2, hS1⟩, ⟨tA, rA8, tLw, rA9⟩, ⟨rA0, tA1, lA1⟩, ⟨rA1, tA2, lA2⟩, ⟨rA2, tA3, lA3⟩, ⟨rA3, tA4, lA4⟩, ⟨rA4, tA5, lA5⟩, ⟨rA5, tA6, lA6⟩, ⟨rA6, tA7, lA7⟩, ⟨rA7, tA8⟩, tS, ⟨rS0, tS1, lS1⟩, ⟨rS1, tS2, lS2⟩, ⟨rS2, tS3, lS3⟩, ⟨rS3, tS4, lS4⟩, ⟨rS4, tS5, lS5⟩, ⟨rS5, tS6, lS6⟩⟩ := id hs
  obtain ⟨⟨hB, hN⟩, ⟨iB, iN⟩, iG, iK, iR, cH, cF, cO, cA, cC, cW, cT, cG, cM, cL⟩ := id hx
  refine ⟨h, ?_, XQ.refl h⟩
  have e53 := sp53 hg (d := d) (by omega) (v := Int32.ofNat w) (lo := 0) (hi := 1) (by rw [j_neg (by omega)]; exact fun z => z) (by rw [j_ltL (by omega) (by omega)]; omega)

  have L := lp_p (fun i x => go gd_P0 d 90 11 [.ref 96, .int (Int32.ofNat w), .int x, .int (Int32.ofNat (i + 1))] [] h) (fun i b => if eR (dE D) b.toNatClampNeg ≤ eR (dE D) (i + 1) then b else Int32.ofNat (i + 1)) (fun i x => ∃ q, q < i + 1 ∧ x = Int32.ofNat q) 11 0 ⟨0, by omega, rfl⟩ ?_
  · have L1 : go gd_P0 d 90 11 [.ref 96, .int (Int32.ofNat w), .int 0, .int 1] [] h = go gd_P0 d 90 11 [.ref 96, .int (Int32.ofNat w), .int (pDry (dE D)), .int (Int32.ofNat 12)] [] h := L.1
    rw [r90, s90_0]
    simp (disch := first | omega | assumption) only [hg.1, hσ, h145, tA, rA8, tLw, rA9, rA0, tA1, lA1, rA1, tA2, lA2, rA2, tA3, lA3, rA3, tA4, lA4, rA4, tA5, lA5, rA5, tA6, lA6, rA6, tA7, lA7, rA7, tA8, tS, rS0, tS1, lS1, rS1, tS2, lS2, rS2, tS3, lS3, rS3, tS4, lS4, rS4, tS5, lS5, rS5, tS6, lS6, iB, iN, iG, iK, iR, cH, cF, cO, cA, cC, cT, cG, cM, cL, e53, s90_7, gT_wI, gR_wI, gL_wI, gS_wI, gU_wI, gI_wI, gJ_wI, gI_wJ, gJ_wJ, gR_wJ, gT_wJ, gL_wJ, gS_wJ, gU_wJ, gI_wR, gJ_wR, gR_wR, gT_wR, gL_wR, gS_wR, gU_wR, wI_wI, wJ_wJ, wR_wR, j_s, j_add, j_addL, j_addR, j_mulL, j_mulR, j_cl, j_clL, j_neg, j_negL, j_nn, j_lt, j_le, j_eq, j_ltL, j_ltR, j_leL, j_leR, j_eqL, j_eqR, j_m1, j_m1L, j_m1R, j_eqLL, j_ltLL, j_leLL, n_le0, n_le1, n_lt0, n_lt1, gc_v, gc_n, ↓reduceIte, and_true, true_and, and_self, or_self, or_false, false_or, not_false_eq_true, not_true_eq_false, false_and, and_false, Nat.reduceAdd, Nat.reduceEqDiff, Nat.reduceLeDiff, Nat.reduceLT]
    rw [L1, s90_11]
    unfold vDry
    obtain ⟨q, z1, z2⟩ := pDry_ex (dE D)
    rcases c02 hw with rfl | rfl
    all_goals simp (disch := first | omega | assumption) only [hg.1, hσ, h145, tA, rA8, tLw, rA9, rA0, tA1, lA1, rA1, tA2, lA2, rA2, tA3, lA3, rA3, tA4, lA4, rA4, tA5, lA5, rA5, tA6, lA6, rA6, tA7, lA7, rA7, tA8, tS, rS0, tS1, lS1, rS1, tS2, lS2, rS2, tS3, lS3, rS3, tS4, lS4, rS4, tS5, lS5, rS5, tS6, lS6, iB, iN, iG, iK, iR, cH, cF, cO, cA, cC, cT, cG, cM, cL, z2, s90_63, gT_wI, gR_wI, gL_wI, gS_wI, gU_wI, gI_wI, gJ_wI, gI_wJ, gJ_wJ, gR_wJ, gT_wJ, gL_wJ, gS_wJ, gU_wJ, gI_wR, gJ_wR, gR_wR, gT_wR, gL_wR, gS_wR, gU_wR, wI_wI, wJ_wJ, wR_wR, j_s, j_add, j_addL, j_addR, j_mulL, j_mulR, j_cl, j_clL, j_neg, j_negL, j_nn, j_lt, j_le, j_eq, j_ltL, j_ltR, j_leL, j_leR, j_eqL, j_eqR, j_m1, j_m1L, j_m1R, j_eqLL, j_ltLL, j_leLL, n_le0, n_le1, n_lt0, n_lt1, gc_v, gc_n, ↓reduceIte, and_true, true_and, and_self, or_self, or_false, false_or, not_false_eq_true, not_true_eq_false, false_and, and_false, Nat.reduceAdd, Nat.reduceEqDiff, Nat.reduceLeDiff, Nat.reduceLT]
  · intro i hi x ⟨q, z1, z2⟩
    try dsimp only
    rw [s90_11]
    by_cases c2 : eR (dE D) q ≤ eR (dE D) (i + 1)
    · refine ⟨?_, q, by omega, ?_⟩
      · simp (disch := first | omega | assumption) only [hg.1, hσ, h145, tA, rA8, tLw, rA9, rA0, tA1, lA1, rA1, tA2, lA2, rA2, tA3, lA3, rA3, tA4, lA4, rA4, tA5, lA5, rA5, tA6, lA6, rA6, tA7, lA7, rA7, tA8, tS, rS0, tS1, lS1, rS1, tS2, lS2, rS2, tS3, lS3, rS3, tS4, lS4, rS4, tS5, lS5, rS5, tS6, lS6, iB, iN, iG, iK, iR, cH, cF, cO, cA, cC, cT, cG, cM, cL, z2, c2, s90_40, gT_wI, gR_wI, gL_wI, gS_wI, gU_wI, gI_wI, gJ_wI, gI_wJ, gJ_wJ, gR_wJ, gT_wJ, gL_wJ, gS_wJ, gU_wJ, gI_wR, gJ_wR, gR_wR, gT_wR, gL_wR, gS_wR, gU_wR, wI_wI, wJ_wJ, wR_wR, j_s, j_add, j_addL, j_addR, j_mulL, j_mulR, j_cl, j_clL, j_neg, j_negL, j_nn, j_lt, j_le, j_eq, j_ltL, j_ltR, j_leL, j_leR, j_eqL, j_eqR, j_m1, j_m1L, j_m1R, j_eqLL, j_ltLL, j_leLL, n_le0, n_le1, n_lt0, n_lt1, gc_v, gc_n, ↓reduceIte, and_true, true_and, and_self, or_self, or_false, false_or, not_false_eq_true, not_true_eq_false, false_and, and_false, Nat.reduceAdd, Nat.reduceEqDiff, Nat.reduceLeDiff, Nat.reduceLT]
      · rw [z2, j_cl (by omega), if_pos c2]
    · refine ⟨?_, i + 1, by omega, ?_⟩
      · simp (disch := first | omega | assumption) only [hg.1, hσ, h145, tA, rA8, tLw, rA9, rA0, tA1, lA1, rA1, tA2, lA2, rA2, tA3, lA3, rA3, tA4, lA4, rA4, tA5, lA5, rA5, tA6, lA6, rA6, tA7, lA7, rA7, tA8, tS, rS0, tS1, lS1, rS1, tS2, lS2, rS2, tS3, lS3, rS3, tS4, lS4, rS4, tS5, lS5, rS5, tS6, lS6, iB, iN, iG, iK, iR, cH, cF, cO, cA, cC, cT, cG, cM, cL, z2, c2, s90_40, gT_wI, gR_wI, gL_wI, gS_wI, gU_wI, gI_wI, gJ_wI, gI_wJ, gJ_wJ, gR_wJ, gT_wJ, gL_wJ, gS_wJ, gU_wJ, gI_wR, gJ_wR, gR_wR, gT_wR, gL_wR, gS_wR, gU_wR, wI_wI, wJ_wJ, wR_wR, j_s, j_add, j_addL, j_addR, j_mulL, j_mulR, j_cl, j_clL, j_neg, j_negL, j_nn, j_lt, j_le, j_eq, j_ltL, j_ltR, j_leL, j_leR, j_eqL, j_eqR, j_m1, j_m1L, j_m1R, j_eqLL, j_ltLL, j_leLL, n_le0, n_le1, n_lt0, n_lt1, gc_v, gc_n, ↓reduceIte, and_true, true_and, and_self, or_self, or_false, false_or, not_false_eq_true, not_true_eq_false, false_and, and_false, Nat.reduceAdd, Nat.reduceEqDiff, Nat.reduceLeDiff, Nat.reduceLT]
      · rw [z2, j_cl (by omega), if_neg c2]
theorem m272 {D : gdD} {w : Nat} (hw : w ≤ 1) : MOk 272 [.int (Int32.ofNat w)] D (.int (vDry D w)) := by
  intro d h hd hi hD
  obtain ⟨d, rfl⟩ : ∃ e, d = e + 1 := ⟨d - 1, by omega⟩
  obtain ⟨hz, ez, hiz, z0, qz⟩ := hi.z
  have hm := hi.1
  have hmz := hiz.1
  refine ⟨hz, ?_, qz, z0⟩
  have e183 := sp183 hmz z0 (d := d) (by omega) 1 1
  obtain ⟨-, ⟨hB, hN⟩, ⟨iB, iN, iA⟩, iT, iK, iR, i7, -⟩ := id hiz
  have L := lp_p (fun i x => go gd_P0 d 272 26 [.ref 1231, .int (Int32.ofNat w), .int x, .int (Int32.ofNat (i + 1))] [] hz) (fun i b => if eR (dE D) b.toNatClampNeg ≤ eR (dE D) (i + 1) then b else Int32.ofNat (i + 1)) (fun i x => ∃ q, q < i + 1 ∧ x = Int32.ofNat q) 11 0 ⟨0, by omega, rfl⟩ ?_
  · have L1 : go gd_P0 d 272 26 [.ref 1231, .int (Int32.ofNat w), .int 0, .int 1] [] hz = go gd_P0 d 272 26 [.ref 1231, .int (Int32.ofNat w), .int (pDry (dE D)), .int (Int32.ofNat 12)] [] hz := L.1
    rw [r272, s272_0]
    simp only [hm.t, ez, ↓reduceIte]
    simp (disch := first | omega | assumption) only [sp233 (d := d) (by omega), hmz.t, e183, s272_12, s272_17, i10, gT_wI, gR_wI, gL_wI, gS_wI, gU_wI, gI_wI, gJ_wI, gI_wJ, gJ_wJ, gR_wJ, gT_wJ, gL_wJ, gS_wJ, gU_wJ, gI_wR, gJ_wR, gR_wR, gT_wR, gL_wR, gS_wR, gU_wR, wI_wI, wJ_wJ, wR_wR, j_s, j_add, j_addL, j_addR, j_mulL, j_mulR, j_cl, j_clL, j_neg, j_negL, j_nn, j_lt, j_le, j_eq, j_ltL, j_ltR, j_leL, j_leR, j_eqL, j_eqR, j_m1, j_m1L, j_m1R, j_eqLL, j_ltLL, j_leLL, n_le0, n_le1, n_lt0, n_lt1, gc_v, gc_n, ↓reduceIte, and_true, true_and, and_self, or_self, or_false, false_or, not_false_eq_true, not_true_eq_false, false_and, and_false, Nat.reduceAdd, Nat.reduceEqDiff, Nat.reduceLeDiff, Nat.reduceLT]
    rw [L1, s272_26]
    unfold vDry
    obtain ⟨q, z1, z2⟩ := pDry_ex (dE D)
    rcases c02 hw with rfl | rfl
    all_goals simp (disch := first | omega | assumption) only [hmz.t, m_r17 hmz, m_t17 hmz, m_l17 hmz, iB, iN, iA, iK, iR, i7, z2, s272_73, gT_wI, gR_wI, gL_wI, gS_wI, gU_wI, gI_wI, gJ_wI, gI_wJ, gJ_wJ, gR_wJ, gT_wJ, gL_wJ, gS_wJ, gU_wJ, gI_wR, gJ_wR, gR_wR, gT_wR, gL_wR, gS_wR, gU_wR, wI_wI, wJ_wJ, wR_wR, j_s, j_add, j_addL, j_addR, j_mulL, j_mulR, j_cl, j_clL, j_neg, j_negL, j_nn, j_lt, j_le, j_eq, j_ltL, j_ltR, j_leL, j_leR, j_eqL, j_eqR, j_m1, j_m1L, j_m1R, j_eqLL, j_ltLL, j_leLL, n_le0, n_le1, n_lt0, n_lt1, gc_v, gc_n, ↓reduceIte, and_true, true_and, and_self, or_self, or_false, false_or, not_false_eq_true, not_true_eq_false, false_and, and_false, Nat.reduceAdd, Nat.reduceEqDiff, Nat.reduceLeDiff, Nat.reduceLT]
  · intro i hi x ⟨q, z1, z2⟩
    try dsimp only
    rw [s272_26]
    by_cases c2 : eR (dE D) q ≤ eR (dE D) (i + 1)
    · refine ⟨?_, q, by omega, ?_⟩
      · simp (disch := first | omega | assumption) only [hmz.t, m_r17 hmz, m_t17 hmz, m_l17 hmz, iB, iN, iA, iK, iR, i7, z2, c2, s272_52, gT_wI, gR_wI, gL_wI, gS_wI, gU_wI, gI_wI, gJ_wI, gI_wJ, gJ_wJ, gR_wJ, gT_wJ, gL_wJ, gS_wJ, gU_wJ, gI_wR, gJ_wR, gR_wR, gT_wR, gL_wR, gS_wR, gU_wR, wI_wI, wJ_wJ, wR_wR, j_s, j_add, j_addL, j_addR, j_mulL, j_mulR, j_cl, j_clL, j_neg, j_negL, j_nn, j_lt, j_le, j_eq, j_ltL, j_ltR, j_leL, j_leR, j_eqL, j_eqR, j_m1, j_m1L, j_m1R, j_eqLL, j_ltLL, j_leLL, n_le0, n_le1, n_lt0, n_lt1, gc_v, gc_n, ↓reduceIte, and_true, true_and, and_self, or_self, or_false, false_or, not_false_eq_true, not_true_eq_false, false_and, and_false, Nat.reduceAdd, Nat.reduceEqDiff, Nat.reduceLeDiff, Nat.reduceLT]
      · rw [z2, j_cl (by omega), if_pos c2]
    · refine ⟨?_, i + 1, by omega, ?_⟩
      · simp (disch := first | omega | assumption) only [hmz.t, m_r17 hmz, m_t17 hmz, m_l17 hmz, iB, iN, iA, iK, iR, i7, z2, c2, s272_52, gT_wI, gR_wI, gL_wI, gS_wI, gU_wI, gI_wI, gJ_wI, gI_wJ, gJ_wJ, gR_wJ, gT_wJ, gL_wJ, gS_wJ, gU_wJ, gI_wR, gJ_wR, gR_wR, gT_wR, gL_wR, gS_wR, gU_wR, wI_wI, wJ_wJ, wR_wR, j_s, j_add, j_addL, j_addR, j_mulL, j_mulR, j_cl, j_clL, j_neg, j_negL, j_nn, j_lt, j_le, j_eq, j_ltL, j_ltR, j_leL, j_leR, j_eqL, j_eqR, j_m1, j_m1L, j_m1R, j_eqLL, j_ltLL, j_leLL, n_le0, n_le1, n_lt0, n_lt1, gc_v, gc_n, ↓reduceIte, and_true, true_and, and_self, or_self, or_false, false_or, not_false_eq_true, not_true_eq_false, false_and, and_false, Nat.reduceAdd, Nat.reduceEqDiff, Nat.reduceLeDiff, Nat.reduceLT]
      · rw [z2, j_cl (by omega), if_neg c2]
theorem x90a {D : gdD} {v : Int32} (hv : v < 0 ∨ 1 < v) : XNo 90 [.int v] D 25 := by
  intro d h hd hi hD
  obtain ⟨a, σ, m, h145, hσ, hs, hx, hr, hm, hl, hE, ha, hT9⟩ := hi.nw hD
  have hg := hi.1
  have hz : 4 ≤ gS h := by have := hi.2.2.2.2.2.2.2.2.2.2; omega
  obtain ⟨d, rfl⟩ : ∃ e, d = e + 1 := ⟨d - 1, by omega⟩
  obtain ⟨⟨hA1, hA2, hS1⟩, ⟨tA, rA8, tLw, rA9⟩, ⟨rA0, tA1, lA1⟩, ⟨rA1, tA2, lA2⟩, ⟨rA2, tA3, lA3⟩, ⟨rA3, tA4, lA4⟩, ⟨rA4, tA5, lA5⟩, ⟨rA5, tA6, lA6⟩, ⟨rA6, tA7, lA7⟩, ⟨rA7, tA8⟩, tS, ⟨rS0, tS1, lS1⟩, ⟨rS1, tS2, lS2⟩, ⟨rS2, tS3, lS3⟩, ⟨rS3, tS4, lS4⟩, ⟨rS4, tS5, lS5⟩, ⟨rS5, tS6, lS6⟩⟩ := id hs
  obtain ⟨⟨hB, hN⟩, ⟨iB, iN⟩, iG, iK, iR, cH, cF, cO, cA, cC, cW, cT, cG, cM, cL⟩ := id hx
  rw [r90, s90_0]
  simp (disch := first | omega | assumption) only [hg.1, hσ, h145, tA, rA8, tLw, rA9, rA0, tA1, lA1, rA1, tA2, lA2, rA2, tA3, lA3, rA3, tA4, lA4, rA4, tA5, lA5, rA5, tA6, lA6, rA6, tA7, lA7, rA7, tA8, tS, rS0, tS1, lS1, rS1, tS2, lS2, rS2, tS3, lS3, rS3, tS4, lS4, rS4, tS5, lS5, rS5, tS6, lS6, iB, iN, iG, iK, iR, cH, cF, cO, cA, cC, cT, cG, cM, cL, sp53n hg hz (d := d) (by omega) hv, gc_x, gx_n (k := 90) (pc := 4) (t := 25) rfl, gT_wI, gR_wI, gL_wI, gS_wI, gU_wI, gI_wI, gJ_wI, gI_wJ, gJ_wJ, gR_wJ, gT_wJ, gL_wJ, gS_wJ, gU_wJ, gI_wR, gJ_wR, gR_wR, gT_wR, gL_wR, gS_wR, gU_wR, wI_wI, wJ_wJ, wR_wR, j_s, j_add, j_addL, j_addR, j_mulL, j_mulR, j_cl, j_clL, j_neg, j_negL, j_nn, j_lt, j_le, j_eq, j_ltL, j_ltR, j_leL, j_leR, j_eqL, j_eqR, j_m1, j_m1L, j_m1R, j_eqLL, j_ltLL, j_leLL, n_le0, n_le1, n_lt0, n_lt1, gc_v, gc_n, ↓reduceIte, and_true, true_and, and_self, or_self, or_false, false_or, not_false_eq_true, not_true_eq_false, false_and, and_false, Nat.reduceAdd, Nat.reduceEqDiff, Nat.reduceLeDiff, Nat.reduceLT]
theorem m272a {D : gdD} {v : Int32} (hv : v < 0 ∨ 1 < v) : MNo 272 [.int v] D 25 1 (.int 0) := by
  intro d h hd hi hD
  obtain ⟨d, rfl⟩ : ∃ e, d = e + 1 := ⟨d - 1, by omega⟩
  obtain ⟨hz, ez, hiz, z0, qz⟩ := hi.z
  have hm := hi.1
  have hmz := hiz.1
  have e183 := sp183n hmz z0 (d := d) (by omega) (c := 1) (by decide) 25 (by omega) (by omega)
  have c0 : (if v < 0 then (0 : Int32) else if 1 < v then 0 else 1) = 0 := by
    rcases hv with h1 | h1
    · rw [if_pos h1]
    · by_cases h2 : v < 0
      · rw [if_pos h2]
      · rw [if_neg h2, if_pos h1]
  rw [r272, s272_0]
  simp only [hm.t, ez, sp233 (d := d) (by omega), c0, gc_v, s272_12, hmz.t, ↓reduceIte]
  refine Eq.trans (congrArg (gc gd_P0 d 272 _ _ _ _) e183) ?_
  rw [gc_v, s272_17]
  subst ez
  rw [mthr_z]
  rfl

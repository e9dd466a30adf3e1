/-! ===== fits, look: the class's answers ===== -/
set_option maxRecDepth 100000
theorem x73 {D : gdD} {p w : Nat} (hp : p < eN (dE D)) (hw : w ≤ 1) : XOk 73 [.int (Int32.ofNat p), .int (Int32.ofNat w)] D (.int (vFit D p w)) := by
  intro d h hd hi hD
  obtain ⟨a, σ, m, h145, hσ, hs, hx, hr, hm, hl, hE, ha, hT9⟩ := hi.nw hD
  have hg := hi.1
  have hz : 4 ≤ gS h := by have := hi.2.2.2.2.2.2.2.2.2.2; omega
  obtain ⟨d, rfl⟩ : ∃ e, d = e + 1 := ⟨d - 1, by omega⟩
  obtain ⟨⟨hA1, hA2, hS1⟩, ⟨tA, rA8, tLw, rA9⟩, ⟨rA0, tA1, lA1⟩, ⟨rA1, tA2, lA2⟩, ⟨rA2, tA3, lA3⟩, ⟨rA3, tA4, lA4⟩, ⟨rA4, tA5, lA5⟩, ⟨rA5, tA6, lA6⟩, ⟨rA6, tA7, lA7⟩, ⟨rA7, tA8⟩, tS, ⟨rS0, tS1, lS1⟩, ⟨rS1, tS2, lS2⟩, ⟨rS2, tS3, lS3⟩, ⟨rS3, tS4, lS4⟩, ⟨rS4, tS5, lS5⟩, ⟨rS5, tS6, lS6⟩⟩ := id hs
  obtain ⟨⟨hB, hN⟩, ⟨iB, iN⟩, iG, iK, iR, cH, cF, cO, cA, cC, cW, cT, cG, cM, cL⟩ := id hx
  have e53 := sp53 hg (d := d) (by omega) (v := Int32.ofNat w) (lo := 0) (hi := 1) (by rw [j_neg (by omega)]; exact fun z => z) (by rw [j_ltL (by omega) (by omega)]; omega)
  have L := lp_e (fun i s => go gd_P0 d 73 20 [.ref 96, .int (Int32.ofNat p), .int (Int32.ofNat w), .int (pFit D p i).1, .int (pFit D p i).2, .int (Int32.ofNat i)] [] s) (fun i s => XQ h s) 100 h (XQ.refl h) ?_
  · obtain ⟨h2, e2, q2⟩ := L
    refine ⟨h2, ?_, q2⟩
    rw [r73, s73_0]
    simp (disch := first | omega | assumption) only [hg.1, hσ, h145, tA, rA8, tLw, rA9, rA0, tA1, lA1, rA1, tA2, lA2, rA2, tA3, lA3, rA3, tA4, lA4, rA4, tA5, lA5, rA5, tA6, lA6, rA6, tA7, lA7, rA7, tA8, tS, rS0, tS1, lS1, rS1, tS2, lS2, rS2, tS3, lS3, rS3, tS4, lS4, rS4, tS5, lS5, rS5, tS6, lS6, iB, iN, iG, iK, iR, cH, cF, cO, cA, cC, cT, cG, cM, cL, sp64 hg hσ hs hx (d := d) (by omega) hp, e53, s73_5, s73_12, gT_wI, gR_wI, gL_wI, gS_wI, gU_wI, gI_wI, gJ_wI, gI_wJ, gJ_wJ, gR_wJ, gT_wJ, gL_wJ, gS_wJ, gU_wJ, gI_wR, gJ_wR, gR_wR, gT_wR, gL_wR, gS_wR, gU_wR, wI_wI, wJ_wJ, wR_wR, j_s, j_add, j_addL, j_addR, j_mulL, j_mulR, j_cl, j_clL, j_neg, j_negL, j_nn, j_lt, j_le, j_eq, j_ltL, j_ltR, j_leL, j_leR, j_eqL, j_eqR, j_m1, j_m1L, j_m1R, j_eqLL, j_ltLL, j_leLL, n_le0, n_le1, n_lt0, n_lt1, gc_v, gc_n, ↓reduceIte, and_true, true_and, and_self, or_self, or_false, false_or, not_false_eq_true, not_true_eq_false, false_and, and_false, Nat.reduceAdd, Nat.reduceEqDiff, Nat.reduceLeDiff, Nat.reduceLT]
    refine Eq.trans e2 ?_
    try dsimp only
    rw [s73_20]
    unfold vFit
    rcases c02 hw with rfl | rfl
    all_goals simp (disch := first | omega | assumption) only [s73_72, gT_wI, gR_wI, gL_wI, gS_wI, gU_wI, gI_wI, gJ_wI, gI_wJ, gJ_wJ, gR_wJ, gT_wJ, gL_wJ, gS_wJ, gU_wJ, gI_wR, gJ_wR, gR_wR, gT_wR, gL_wR, gS_wR, gU_wR, wI_wI, wJ_wJ, wR_wR, j_s, j_add, j_addL, j_addR, j_mulL, j_mulR, j_cl, j_clL, j_neg, j_negL, j_nn, j_lt, j_le, j_eq, j_ltL, j_ltR, j_leL, j_leR, j_eqL, j_eqR, j_m1, j_m1L, j_m1R, j_eqLL, j_ltLL, j_leLL, n_le0, n_le1, n_lt0, n_lt1, gc_v, gc_n, ↓reduceIte, and_true, true_and, and_self, or_self, or_false, false_or, not_false_eq_true, not_true_eq_false, false_and, and_false, Nat.reduceAdd, Nat.reduceEqDiff, Nat.reduceLeDiff, Nat.reduceLT]
  · intro k hk s qs
    try dsimp only
    obtain ⟨s', e74, q', -, -⟩ := sp74 (hi.q qs) hD (d := d) (by omega) hp hk
    refine ⟨s', ?_, qs.trans q'⟩
    obtain ⟨c, c1, c2, c3, c4⟩ := pFit_or D p k
    have hgs := (hi.q qs).1
    have e10 : k - k / 10 * 10 = k % 10 := by omega
    show _ = go gd_P0 d 73 20 [.ref 96, .int (Int32.ofNat p), .int (Int32.ofNat w), .int (if gOk D p k = true then ((pFit D p k).1 + 1, if (pFit D p k).2 = -1 then Int32.ofNat k else (pFit D p k).2) else pFit D p k).1, .int (if gOk D p k = true then ((pFit D p k).1 + 1, if (pFit D p k).2 = -1 then Int32.ofNat k else (pFit D p k).2) else pFit D p k).2, .int (Int32.ofNat (k + 1))] [] s'
    rw [s73_20]
    by_cases g : gOk D p k = true
    · by_cases c0 : c = 0
      · have f0 := c3 c0
        rw [if_pos g, f0] at *
        simp (disch := first | omega | assumption) only [hgs.1, j_divR, j_mulR, j_sub, e10, e74, g, c2, c0, f0, s73_42, s73_56, i10, gT_wI, gR_wI, gL_wI, gS_wI, gU_wI, gI_wI, gJ_wI, gI_wJ, gJ_wJ, gR_wJ, gT_wJ, gL_wJ, gS_wJ, gU_wJ, gI_wR, gJ_wR, gR_wR, gT_wR, gL_wR, gS_wR, gU_wR, wI_wI, wJ_wJ, wR_wR, j_s, j_add, j_addL, j_addR, j_mulL, j_mulR, j_cl, j_clL, j_neg, j_negL, j_nn, j_lt, j_le, j_eq, j_ltL, j_ltR, j_leL, j_leR, j_eqL, j_eqR, j_m1, j_m1L, j_m1R, j_eqLL, j_ltLL, j_leLL, n_le0, n_le1, n_lt0, n_lt1, gc_v, gc_n, ↓reduceIte, and_true, true_and, and_self, or_self, or_false, false_or, not_false_eq_true, not_true_eq_false, false_and, and_false, Nat.reduceAdd, Nat.reduceEqDiff, Nat.reduceLeDiff, Nat.reduceLT]
      · obtain ⟨q, q1, q2⟩ := c4 c0
        simp (disch := first | omega | assumption) only [hgs.1, j_divR, j_mulR, j_sub, e10, e74, g, c2, c0, q2, s73_42, s73_56, i10, gT_wI, gR_wI, gL_wI, gS_wI, gU_wI, gI_wI, gJ_wI, gI_wJ, gJ_wJ, gR_wJ, gT_wJ, gL_wJ, gS_wJ, gU_wJ, gI_wR, gJ_wR, gR_wR, gT_wR, gL_wR, gS_wR, gU_wR, wI_wI, wJ_wJ, wR_wR, j_s, j_add, j_addL, j_addR, j_mulL, j_mulR, j_cl, j_clL, j_neg, j_negL, j_nn, j_lt, j_le, j_eq, j_ltL, j_ltR, j_leL, j_leR, j_eqL, j_eqR, j_m1, j_m1L, j_m1R, j_eqLL, j_ltLL, j_leLL, n_le0, n_le1, n_lt0, n_lt1, gc_v, gc_n, ↓reduceIte, and_true, true_and, and_self, or_self, or_false, false_or, not_false_eq_true, not_true_eq_false, false_and, and_false, Nat.reduceAdd, Nat.reduceEqDiff, Nat.reduceLeDiff, Nat.reduceLT]
    · simp (disch := first | omega | assumption) only [hgs.1, j_divR, j_mulR, j_sub, e10, e74, g, Bool.false_eq_true, s73_42, s73_56, gT_wI, gR_wI, gL_wI, gS_wI, gU_wI, gI_wI, gJ_wI, gI_wJ, gJ_wJ, gR_wJ, gT_wJ, gL_wJ, gS_wJ, gU_wJ, gI_wR, gJ_wR, gR_wR, gT_wR, gL_wR, gS_wR, gU_wR, wI_wI, wJ_wJ, wR_wR, j_s, j_add, j_addL, j_addR, j_mulL, j_mulR, j_cl, j_clL, j_neg, j_negL, j_nn, j_lt, j_le, j_eq, j_ltL, j_ltR, j_leL, j_leR, j_eqL, j_eqR, j_m1, j_m1L, j_m1R, j_eqLL, j_ltLL, j_leLL, n_le0, n_le1, n_lt0, n_lt1, gc_v, gc_n, ↓reduceIte, and_true, true_and, and_self, or_self, or_false, false_or, not_false_eq_true, not_true_eq_false, false_and, and_false, Nat.reduceAdd, Nat.reduceEqDiff, Nat.reduceLeDiff, Nat.reduceLT]
theorem x73a {D : gdD} {v v2 : Int32} (hv : v < 0 ∨ Int32.ofNat (eN (dE D)) ≤ v) : XNo 73 [.int v, .int v2] D 24 := by
  intro d h hd hi hD
  obtain ⟨a, σ, m, h145, hσ, hs, hx, hr, hm, hl, hE, ha, hT9⟩ := hi.nw hD
  have hg := hi.1
  have hz : 4 ≤ gS h := by have := hi.2.2.2.2.2.2.2.2.2.2; omega
  obtain ⟨d, rfl⟩ : ∃ e, d = e + 1 := ⟨d - 1, by omega⟩
  obtain ⟨⟨hA1, hA2, hS1⟩, ⟨tA, rA8, tLw, rA9⟩, ⟨rA0, tA1, lA1⟩, ⟨rA1, tA2, lA2⟩, ⟨rA2, tA3, lA3⟩, ⟨rA3, tA4, lA4⟩, ⟨rA4, tA5, lA5⟩, ⟨rA5, tA6, lA6⟩, ⟨rA6, tA7, lA7⟩, ⟨rA7, tA8⟩, tS, ⟨rS0, tS1, lS1⟩, ⟨rS1, tS2, lS2⟩, ⟨rS2, tS3, lS3⟩, ⟨rS3, tS4, lS4⟩, ⟨rS4, tS5, lS5⟩, ⟨rS5, tS6, lS6⟩⟩ := id hs
  obtain ⟨⟨hB, hN⟩, ⟨iB, iN⟩, iG, iK, iR, cH, cF, cO, cA, cC, cW, cT, cG, cM, cL⟩ := id hx
  rw [r73, s73_0]
  simp (disch := first | omega | assumption) only [hg.1, hσ, h145, tA, rA8, tLw, rA9, rA0, tA1, lA1, rA1, tA2, lA2, rA2, tA3, lA3, rA3, tA4, lA4, rA4, tA5, lA5, rA5, tA6, lA6, rA6, tA7, lA7, rA7, tA8, tS, rS0, tS1, lS1, rS1, tS2, lS2, rS2, tS3, lS3, rS3, tS4, lS4, rS4, tS5, lS5, rS5, tS6, lS6, iB, iN, iG, iK, iR, cH, cF, cO, cA, cC, cT, cG, cM, cL, sp64n hg hz hσ hs hx (d := d) (by omega) hv, gc_x, gx_n (k := 73) (pc := 2) (t := 24) rfl, gT_wI, gR_wI, gL_wI, gS_wI, gU_wI, gI_wI, gJ_wI, gI_wJ, gJ_wJ, gR_wJ, gT_wJ, gL_wJ, gS_wJ, gU_wJ, gI_wR, gJ_wR, gR_wR, gT_wR, gL_wR, gS_wR, gU_wR, wI_wI, wJ_wJ, wR_wR, j_s, j_add, j_addL, j_addR, j_mulL, j_mulR, j_cl, j_clL, j_neg, j_negL, j_nn, j_lt, j_le, j_eq, j_ltL, j_ltR, j_leL, j_leR, j_eqL, j_eqR, j_m1, j_m1L, j_m1R, j_eqLL, j_ltLL, j_leLL, n_le0, n_le1, n_lt0, n_lt1, gc_v, gc_n, ↓reduceIte, and_true, true_and, and_self, or_self, or_false, false_or, not_false_eq_true, not_true_eq_false, false_and, and_false, Nat.reduceAdd, Nat.reduceEqDiff, Nat.reduceLeDiff, Nat.reduceLT]
theorem x73b {D : gdD} {p : Nat} (hp : p < eN (dE D)) {v2 : Int32} (hv : v2 < 0 ∨ 1 < v2) : XNo 73 [.int (Int32.ofNat p), .int v2] D 25 := by
  intro d h hd hi hD
  obtain ⟨a, σ, m, h145, hσ, hs, hx, hr, hm, hl, hE, ha, hT9⟩ := hi.nw hD
  have hg := hi.1
  have hz : 4 ≤ gS h := by have := hi.2.2.2.2.2.2.2.2.2.2; omega
  obtain ⟨d, rfl⟩ : ∃ e, d = e + 1 := ⟨d - 1, by omega⟩
  obtain ⟨⟨hA1, hA2, hS1⟩, ⟨tA, rA8, tLw, rA9⟩, ⟨rA0, tA1, lA1⟩, ⟨rA1, tA2, lA2⟩, ⟨rA2, tA3, lA3⟩, ⟨rA3, tA4, lA4⟩, ⟨rA4, tA5, lA5⟩, ⟨rA5, tA6, lA6⟩, ⟨rA6, tA7, lA7⟩, ⟨rA7, tA8⟩, tS, ⟨rS0, tS1, lS1⟩, ⟨rS1, tS2, lS2⟩, ⟨rS2, tS3, lS3⟩, ⟨rS3, tS4, lS4⟩, ⟨rS4, tS5, lS5⟩, ⟨rS5, tS6, lS6⟩⟩ := id hs
  obtain ⟨⟨hB, hN⟩, ⟨iB, iN⟩, iG, iK, iR, cH, cF, cO, cA, cC, cW, cT, cG, cM, cL⟩ := id hx
  rw [r73, s73_0]
  simp (disch := first | omega | assumption) only [hg.1, hσ, h145, tA, rA8, tLw, rA9, rA0, tA1, lA1, rA1, tA2, lA2, rA2, tA3, lA3, rA3, tA4, lA4, rA4, tA5, lA5, rA5, tA6, lA6, rA6, tA7, lA7, rA7, tA8, tS, rS0, tS1, lS1, rS1, tS2, lS2, rS2, tS3, lS3, rS3, tS4, lS4, rS4, tS5, lS5, rS5, tS6, lS6, iB, iN, iG, iK, iR, cH, cF, cO, cA, cC, cT, cG, cM, cL, sp64 hg hσ hs hx (d := d) (by omega) hp, s73_5, sp53n hg hz (d := d) (by omega) hv, gc_x, gx_n (k := 73) (pc := 9) (t := 25) rfl, gT_wI, gR_wI, gL_wI, gS_wI, gU_wI, gI_wI, gJ_wI, gI_wJ, gJ_wJ, gR_wJ, gT_wJ, gL_wJ, gS_wJ, gU_wJ, gI_wR, gJ_wR, gR_wR, gT_wR, gL_wR, gS_wR, gU_wR, wI_wI, wJ_wJ, wR_wR, j_s, j_add, j_addL, j_addR, j_mulL, j_mulR, j_cl, j_clL, j_neg, j_negL, j_nn, j_lt, j_le, j_eq, j_ltL, j_ltR, j_leL, j_leR, j_eqL, j_eqR, j_m1, j_m1L, j_m1R, j_eqLL, j_ltLL, j_leLL, n_le0, n_le1, n_lt0, n_lt1, gc_v, gc_n, ↓reduceIte, and_true, true_and, and_self, or_self, or_false, false_or, not_false_eq_true, not_true_eq_false, false_and, and_false, Nat.reduceAdd, Nat.reduceEqDiff, Nat.reduceLeDiff, Nat.reduceLT]
theorem sp76 {h : gd_H} {D : gdD} (hi : XI h D) {d : Nat} (hd : 1 ≤ d) {m : Nat} (m1 : 1 ≤ m) (m2 : m ≤ 12) : run gd_P0 d 76 [.ref 96, .int (Int32.ofNat m)] h = some (.inl (some (.int (if dBk D m = -1 then 0 else 1))), h) := by
  obtain ⟨d, rfl⟩ : ∃ e, d = e + 1 := ⟨d - 1, by omega⟩
  have hg := hi.1
  obtain ⟨-, -, -, -, -, -, ⟨b1, b2, b3, b4⟩, -⟩ := id hi
  rw [r76, s76_0]
  have X := lp_x (fun i => go gd_P0 d 76 2 [.ref 96, .int (Int32.ofNat m), .int (Int32.ofNat i)] [] h) (fun _ => some (.inl (some (.int 1)), h)) (fun i => gI h 1217 i = Int32.ofNat m) (dNb D) ?_ ?_
  · rcases X with ⟨i, x1, x2, -, x4⟩ | ⟨x1, x2⟩
    · obtain ⟨m', n1, n2, n3, n4, n5⟩ := b3 i x1
      rw [n3, j_eq (by omega) (by omega)] at x2
      subst x2
      rw [if_neg n5]
      exact x4
    · have z : dBk D m = -1 := by
        by_cases z : dBk D m = -1
        · exact z
        · obtain ⟨i, i1, i2⟩ := b4 m m1 m2 z
          exact absurd i2 (x1 i i1)
      rw [if_pos z]
      refine x2.trans ?_
      try dsimp only
      rw [s76_2]
      simp (disch := first | omega | assumption) only [hg.1, b1, gT_wI, gR_wI, gL_wI, gS_wI, gU_wI, gI_wI, gJ_wI, gI_wJ, gJ_wJ, gR_wJ, gT_wJ, gL_wJ, gS_wJ, gU_wJ, gI_wR, gJ_wR, gR_wR, gT_wR, gL_wR, gS_wR, gU_wR, wI_wI, wJ_wJ, wR_wR, j_s, j_add, j_addL, j_addR, j_mulL, j_mulR, j_cl, j_clL, j_neg, j_negL, j_nn, j_lt, j_le, j_eq, j_ltL, j_ltR, j_leL, j_leR, j_eqL, j_eqR, j_m1, j_m1L, j_m1R, j_eqLL, j_ltLL, j_leLL, n_le0, n_le1, n_lt0, n_lt1, gc_v, gc_n, ↓reduceIte, and_true, true_and, and_self, or_self, or_false, false_or, not_false_eq_true, not_true_eq_false, false_and, and_false, Nat.reduceAdd, Nat.reduceEqDiff, Nat.reduceLeDiff, Nat.reduceLT]
  · intro i hi9 c
    try dsimp only
    rw [s76_2]
    simp (disch := first | omega | assumption) only [hg.1, x_r8 hg, x_t8 hg, x_l8 hg, b1, c, gT_wI, gR_wI, gL_wI, gS_wI, gU_wI, gI_wI, gJ_wI, gI_wJ, gJ_wJ, gR_wJ, gT_wJ, gL_wJ, gS_wJ, gU_wJ, gI_wR, gJ_wR, gR_wR, gT_wR, gL_wR, gS_wR, gU_wR, wI_wI, wJ_wJ, wR_wR, j_s, j_add, j_addL, j_addR, j_mulL, j_mulR, j_cl, j_clL, j_neg, j_negL, j_nn, j_lt, j_le, j_eq, j_ltL, j_ltR, j_leL, j_leR, j_eqL, j_eqR, j_m1, j_m1L, j_m1R, j_eqLL, j_ltLL, j_leLL, n_le0, n_le1, n_lt0, n_lt1, gc_v, gc_n, ↓reduceIte, and_true, true_and, and_self, or_self, or_false, false_or, not_false_eq_true, not_true_eq_false, false_and, and_false, Nat.reduceAdd, Nat.reduceEqDiff, Nat.reduceLeDiff, Nat.reduceLT]
  · intro i hi9 c
    try dsimp only
    rw [s76_2]
    simp (disch := first | omega | assumption) only [hg.1, x_r8 hg, x_t8 hg, x_l8 hg, b1, c, gT_wI, gR_wI, gL_wI, gS_wI, gU_wI, gI_wI, gJ_wI, gI_wJ, gJ_wJ, gR_wJ, gT_wJ, gL_wJ, gS_wJ, gU_wJ, gI_wR, gJ_wR, gR_wR, gT_wR, gL_wR, gS_wR, gU_wR, wI_wI, wJ_wJ, wR_wR, j_s, j_add, j_addL, j_addR, j_mulL, j_mulR, j_cl, j_clL, j_neg, j_negL, j_nn, j_lt, j_le, j_eq, j_ltL, j_ltR, j_leL, j_leR, j_eqL, j_eqR, j_m1, j_m1L, j_m1R, j_eqLL, j_ltLL, j_leLL, n_le0, n_le1, n_lt0, n_lt1, gc_v, gc_n, ↓reduceIte, and_true, true_and, and_self, or_self, or_false, false_or, not_false_eq_true, not_true_eq_false, false_and, and_false, Nat.reduceAdd, Nat.reduceEqDiff, Nat.reduceLeDiff, Nat.reduceLT]
theorem sp77 {h : gd_H} {D : gdD} (hi : XI h D) (hD : DI D) {d : Nat} (hd : 195 ≤ d) {p m : Nat} (hp : p < eN (dE D)) (m1 : 1 ≤ m) (m2 : m ≤ 12) : ∃ h', run gd_P0 d 77 [.ref 96, .int (Int32.ofNat p), .int (Int32.ofNat m)] h = some (.inl (some (.int (pWor D p m))), h') ∧ XQ h h' := by
  obtain ⟨d, rfl⟩ : ∃ e, d = e + 1 := ⟨d - 1, by omega⟩
  have hg := hi.1
  obtain ⟨m0, hm0, hr⟩ := hD.2.1 (dW D) (Nat.le_refl _)
  have hN := hr.1.2
  have L0 := lp_e (fun i s => go gd_P0 d 77 5 [.ref 96, .int (Int32.ofNat p), .int (Int32.ofNat m), .int 0, .int (Int32.ofNat i)] [] s) (fun i s => XQ h s ∧ ∀ v, v < i → gI s 1220 v = 0) 1000 h ⟨XQ.refl h, fun v hv => absurd hv (Nat.not_lt_zero v)⟩ ?_
  · obtain ⟨h1, e1, q1, z1⟩ := L0
    have L := lp_e (fun i s => go gd_P0 d 77 30 [.ref 96, .int (Int32.ofNat p), .int (Int32.ofNat m), .int (pCnt D p m i).2, .int (Int32.ofNat i)] [] s) (fun i s => XQ h s ∧ ∀ v, v < 1000 → gI s 1220 v = (pCnt D p m i).1 v) 100 h1 ⟨q1, z1⟩ ?_
    · obtain ⟨h2, e2, q2, z2⟩ := L
      refine ⟨h2, ?_, q2⟩
      rw [r77, s77_0]
      refine Eq.trans e1 ?_
      try dsimp only
      rw [s77_5, if_pos (by decide)]
      refine Eq.trans e2 ?_
      try dsimp only
      rw [s77_30, if_pos (by decide)]
      rfl
    · intro k hk s ⟨qs, zs⟩
      try dsimp only
      have his := hi.q qs
      have hgs := his.1
      obtain ⟨s', e74, q', g', f'⟩ := sp74 his hD (d := d) (by omega) hp hk
      have hg' := (his.q q').1
      obtain ⟨v, v1, v2⟩ := gr_n hD (p := p) (k := k) (m := m) (by omega) hk m2
      have e10 : k - k / 10 * 10 = k % 10 := by omega
      have gm := g' m m1 m2
      have cv : gI s' 1220 v = (pCnt D p m k).1 v := by rw [f']; exact zs v (by omega)
      by_cases g : gOk D p k = true
      · have ec : pCnt D p m (k + 1) = (rw1 (pCnt D p m k).1 v ((pCnt D p m k).1 v + 1), jmax (pCnt D p m k).2 ((pCnt D p m k).1 v + 1)) := by
          show (if gOk D p k = true then _ else _) = _
          rw [if_pos g, v2, j_cl (by omega)]
          rfl
        refine ⟨wI s' (up1 (gI s') 1220 v ((pCnt D p m k).1 v + 1)), ?_, (qs.trans q').trans (XQ.us (by omega) (by omega) (by omega) _ _), fun u hu => ?_⟩
        · rw [ec, s77_30]
          simp (disch := first | omega | assumption) only [hgs.1, j_divR, j_mulR, j_sub, e10, e74, g, i10, s77_52, hg'.1, x_r10 hg', x_t10 hg', x_l10 hg', x_r11 hg', x_t11 hg', x_l11 hg', gm, v2, cv, s77_75, s77_76, gT_wI, gR_wI, gL_wI, gS_wI, gU_wI, gI_wI, gJ_wI, gI_wJ, gJ_wJ, gR_wJ, gT_wJ, gL_wJ, gS_wJ, gU_wJ, gI_wR, gJ_wR, gR_wR, gT_wR, gL_wR, gS_wR, gU_wR, wI_wI, wJ_wJ, wR_wR, j_s, j_add, j_addL, j_addR, j_mulL, j_mulR, j_cl, j_clL, j_neg, j_negL, j_nn, j_lt, j_le, j_eq, j_ltL, j_ltR, j_leL, j_leR, j_eqL, j_eqR, j_m1, j_m1L, j_m1R, j_eqLL, j_ltLL, j_leLL, n_le0, n_le1, n_lt0, n_lt1, gc_v, gc_n, ↓reduceIte, and_true, true_and, and_self, or_self, or_false, false_or, not_false_eq_true, not_true_eq_false, false_and, and_false, Nat.reduceAdd, Nat.reduceEqDiff, Nat.reduceLeDiff, Nat.reduceLT]
          rfl
        · rw [ec, gI_wI]
          by_cases z : u = v
          · subst z; rw [up1_eq]; exact (rw1_eq _ _ _).symm
          · rw [up1_nj _ _ z, f', zs u hu]
            exact (rw1_ne _ _ z).symm
      · have ec : pCnt D p m (k + 1) = pCnt D p m k := by
          show (if gOk D p k = true then _ else _) = _
          rw [if_neg g]
          rfl
        refine ⟨s', ?_, qs.trans q', fun u hu => by rw [ec, f']; exact zs u hu⟩
        rw [ec, s77_30]
        simp (disch := first | omega | assumption) only [hgs.1, j_divR, j_mulR, j_sub, e10, e74, g, Bool.false_eq_true, s77_52, s77_76, gT_wI, gR_wI, gL_wI, gS_wI, gU_wI, gI_wI, gJ_wI, gI_wJ, gJ_wJ, gR_wJ, gT_wJ, gL_wJ, gS_wJ, gU_wJ, gI_wR, gJ_wR, gR_wR, gT_wR, gL_wR, gS_wR, gU_wR, wI_wI, wJ_wJ, wR_wR, j_s, j_add, j_addL, j_addR, j_mulL, j_mulR, j_cl, j_clL, j_neg, j_negL, j_nn, j_lt, j_le, j_eq, j_ltL, j_ltR, j_leL, j_leR, j_eqL, j_eqR, j_m1, j_m1L, j_m1R, j_eqLL, j_ltLL, j_leLL, n_le0, n_le1, n_lt0, n_lt1, gc_v, gc_n, ↓reduceIte, and_true, true_and, and_self, or_self, or_false, false_or, not_false_eq_true, not_true_eq_false, false_and, and_false, Nat.reduceAdd, Nat.reduceEqDiff, Nat.reduceLeDiff, Nat.reduceLT]
  · intro i hi9 s ⟨qs, zs⟩
    try dsimp only
    have hgs := (hi.q qs).1
    refine ⟨wI s (up1 (gI s) 1220 i 0), ?_, qs.trans (XQ.us (by omega) (by omega) (by omega) _ _), fun v hv => ?_⟩
    · rw [s77_5]
      simp (disch := first | omega | assumption) only [hgs.1, x_r11 hgs, x_t11 hgs, x_l11 hgs, gT_wI, gR_wI, gL_wI, gS_wI, gU_wI, gI_wI, gJ_wI, gI_wJ, gJ_wJ, gR_wJ, gT_wJ, gL_wJ, gS_wJ, gU_wJ, gI_wR, gJ_wR, gR_wR, gT_wR, gL_wR, gS_wR, gU_wR, wI_wI, wJ_wJ, wR_wR, j_s, j_add, j_addL, j_addR, j_mulL, j_mulR, j_cl, j_clL, j_neg, j_negL, j_nn, j_lt, j_le, j_eq, j_ltL, j_ltR, j_leL, j_leR, j_eqL, j_eqR, j_m1, j_m1L, j_m1R, j_eqLL, j_ltLL, j_leLL, n_le0, n_le1, n_lt0, n_lt1, gc_v, gc_n, ↓reduceIte, and_true, true_and, and_self, or_self, or_false, false_or, not_false_eq_true, not_true_eq_false, false_and, and_false, Nat.reduceAdd, Nat.reduceEqDiff, Nat.reduceLeDiff, Nat.reduceLT]
    · by_cases z : v = i
      · subst z; exact up1_eq _ _ _ _
      · rw [gI_wI, up1_nj _ _ z]; exact zs v (by omega)
theorem x75 {D : gdD} {p w : Nat} (hp : p < eN (dE D)) (hw : w ≤ 1) : XOk 75 [.int (Int32.ofNat p), .int (Int32.ofNat w)] D (.int (vLook D p w)) := by
  intro d h hd hi hD
  obtain ⟨a, σ, m, h145, hσ, hs, hx, hr, hm, hl, hE, ha, hT9⟩ := hi.nw hD
  have hg := hi.1
  have hz : 4 ≤ gS h := by have := hi.2.2.2.2.2.2.2.2.2.2; omega
  obtain ⟨d, rfl⟩ : ∃ e, d = e + 1 := ⟨d - 1, by omega⟩
  obtain ⟨⟨hA1, hA2, hS1⟩, ⟨tA, rA8, tLw, rA9⟩, ⟨rA0, tA1, lA1⟩, ⟨rA1, tA2, lA2⟩, ⟨rA2, tA3, lA3⟩, ⟨rA3, tA4, lA4⟩, ⟨rA4, tA5, lA5⟩, ⟨rA5, tA6, lA6⟩, ⟨rA6, tA7, lA7⟩, ⟨rA7, tA8⟩, tS, ⟨rS0, tS1, lS1⟩, ⟨rS1, tS2, lS2⟩, ⟨rS2, tS3, lS3⟩, ⟨rS3, tS4, lS4⟩, ⟨rS4, tS5, lS5⟩, ⟨rS5, tS6, lS6⟩⟩ := id hs
  obtain ⟨⟨hB, hN⟩, ⟨iB, iN⟩, iG, iK, iR, cH, cF, cO, cA, cC, cW, cT, cG, cM, cL⟩ := id hx
  have e53 := sp53 hg (d := d) (by omega) (v := Int32.ofNat w) (lo := 0) (hi := 1) (by rw [j_neg (by omega)]; exact fun z => z) (by rw [j_ltL (by omega) (by omega)]; omega)
  have L := lp_e (fun i s => go gd_P0 d 75 20 [.ref 96, .int (Int32.ofNat p), .int (Int32.ofNat w), .int (pLook D p i).1, .int (pLook D p i).2, .int (Int32.ofNat (i + 1)), .null] [] s) (fun i s => XQ h s) 12 h (XQ.refl h) ?_
  · obtain ⟨h2, e2, q2⟩ := L
    refine ⟨h2, ?_, q2⟩
    rw [r75, s75_0]
    simp (disch := first | omega | assumption) only [hg.1, hσ, h145, tA, rA8, tLw, rA9, rA0, tA1, lA1, rA1, tA2, lA2, rA2, tA3, lA3, rA3, tA4, lA4, rA4, tA5, lA5, rA5, tA6, lA6, rA6, tA7, lA7, rA7, tA8, tS, rS0, tS1, lS1, rS1, tS2, lS2, rS2, tS3, lS3, rS3, tS4, lS4, rS4, tS5, lS5, rS5, tS6, lS6, iB, iN, iG, iK, iR, cH, cF, cO, cA, cC, cT, cG, cM, cL, sp64 hg hσ hs hx (d := d) (by omega) hp, e53, s75_5, s75_12, gT_wI, gR_wI, gL_wI, gS_wI, gU_wI, gI_wI, gJ_wI, gI_wJ, gJ_wJ, gR_wJ, gT_wJ, gL_wJ, gS_wJ, gU_wJ, gI_wR, gJ_wR, gR_wR, gT_wR, gL_wR, gS_wR, gU_wR, wI_wI, wJ_wJ, wR_wR, j_s, j_add, j_addL, j_addR, j_mulL, j_mulR, j_cl, j_clL, j_neg, j_negL, j_nn, j_lt, j_le, j_eq, j_ltL, j_ltR, j_leL, j_leR, j_eqL, j_eqR, j_m1, j_m1L, j_m1R, j_eqLL, j_ltLL, j_leLL, n_le0, n_le1, n_lt0, n_lt1, gc_v, gc_n, ↓reduceIte, and_true, true_and, and_self, or_self, or_false, false_or, not_false_eq_true, not_true_eq_false, false_and, and_false, Nat.reduceAdd, Nat.reduceEqDiff, Nat.reduceLeDiff, Nat.reduceLT]
    refine Eq.trans e2 ?_
    try dsimp only
    rw [s75_20]
    unfold vLook
    rcases c02 hw with rfl | rfl
    all_goals simp (disch := first | omega | assumption) only [s75_86, gT_wI, gR_wI, gL_wI, gS_wI, gU_wI, gI_wI, gJ_wI, gI_wJ, gJ_wJ, gR_wJ, gT_wJ, gL_wJ, gS_wJ, gU_wJ, gI_wR, gJ_wR, gR_wR, gT_wR, gL_wR, gS_wR, gU_wR, wI_wI, wJ_wJ, wR_wR, j_s, j_add, j_addL, j_addR, j_mulL, j_mulR, j_cl, j_clL, j_neg, j_negL, j_nn, j_lt, j_le, j_eq, j_ltL, j_ltR, j_leL, j_leR, j_eqL, j_eqR, j_m1, j_m1L, j_m1R, j_eqLL, j_ltLL, j_leLL, n_le0, n_le1, n_lt0, n_lt1, gc_v, gc_n, ↓reduceIte, and_true, true_and, and_self, or_self, or_false, false_or, not_false_eq_true, not_true_eq_false, false_and, and_false, Nat.reduceAdd, Nat.reduceEqDiff, Nat.reduceLeDiff, Nat.reduceLT]
  · intro k hk s qs
    try dsimp only
    have his := hi.q qs
    have hgs := his.1
    have e76 := sp76 his (d := d) (by omega) (m := k + 1) (by omega) (by omega)
    obtain ⟨s', e77, q'⟩ := sp77 his hD (d := d) (by omega) hp (m := k + 1) (by omega) (by omega)
    by_cases t : dBk D (k + 1) = -1
    · refine ⟨s', ?_, qs.trans q'⟩
      have ec : pLook D p (k + 1) = if (pLook D p k).1 = -1 then (Int32.ofNat (k + 1), pWor D p (k + 1)) else if pWor D p (k + 1) < (pLook D p k).2 then (Int32.ofNat (k + 1), pWor D p (k + 1)) else pLook D p k := by
        show (if dBk D (k + 1) = -1 then _ else _) = _
        rw [if_pos t]
        rfl
      rw [ec, s75_20]
      simp (disch := first | omega | assumption) only [hgs.1, e76, t, s75_33, e77, gT_wI, gR_wI, gL_wI, gS_wI, gU_wI, gI_wI, gJ_wI, gI_wJ, gJ_wJ, gR_wJ, gT_wJ, gL_wJ, gS_wJ, gU_wJ, gI_wR, gJ_wR, gR_wR, gT_wR, gL_wR, gS_wR, gU_wR, wI_wI, wJ_wJ, wR_wR, j_s, j_add, j_addL, j_addR, j_mulL, j_mulR, j_cl, j_clL, j_neg, j_negL, j_nn, j_lt, j_le, j_eq, j_ltL, j_ltR, j_leL, j_leR, j_eqL, j_eqR, j_m1, j_m1L, j_m1R, j_eqLL, j_ltLL, j_leLL, n_le0, n_le1, n_lt0, n_lt1, gc_v, gc_n, ↓reduceIte, and_true, true_and, and_self, or_self, or_false, false_or, not_false_eq_true, not_true_eq_false, false_and, and_false, Nat.reduceAdd, Nat.reduceEqDiff, Nat.reduceLeDiff, Nat.reduceLT]
      rw [s75_46]
      by_cases c1 : (pLook D p k).1 = -1
      · simp (disch := first | omega | assumption) only [c1, s75_63, s75_70, gT_wI, gR_wI, gL_wI, gS_wI, gU_wI, gI_wI, gJ_wI, gI_wJ, gJ_wJ, gR_wJ, gT_wJ, gL_wJ, gS_wJ, gU_wJ, gI_wR, gJ_wR, gR_wR, gT_wR, gL_wR, gS_wR, gU_wR, wI_wI, wJ_wJ, wR_wR, j_s, j_add, j_addL, j_addR, j_mulL, j_mulR, j_cl, j_clL, j_neg, j_negL, j_nn, j_lt, j_le, j_eq, j_ltL, j_ltR, j_leL, j_leR, j_eqL, j_eqR, j_m1, j_m1L, j_m1R, j_eqLL, j_ltLL, j_leLL, n_le0, n_le1, n_lt0, n_lt1, gc_v, gc_n, ↓reduceIte, and_true, true_and, and_self, or_self, or_false, false_or, not_false_eq_true, not_true_eq_false, false_and, and_false, Nat.reduceAdd, Nat.reduceEqDiff, Nat.reduceLeDiff, Nat.reduceLT]
      · by_cases c2 : pWor D p (k + 1) < (pLook D p k).2
        · simp (disch := first | omega | assumption) only [c1, c2, s75_63, s75_70, gT_wI, gR_wI, gL_wI, gS_wI, gU_wI, gI_wI, gJ_wI, gI_wJ, gJ_wJ, gR_wJ, gT_wJ, gL_wJ, gS_wJ, gU_wJ, gI_wR, gJ_wR, gR_wR, gT_wR, gL_wR, gS_wR, gU_wR, wI_wI, wJ_wJ, wR_wR, j_s, j_add, j_addL, j_addR, j_mulL, j_mulR, j_cl, j_clL, j_neg, j_negL, j_nn, j_lt, j_le, j_eq, j_ltL, j_ltR, j_leL, j_leR, j_eqL, j_eqR, j_m1, j_m1L, j_m1R, j_eqLL, j_ltLL, j_leLL, n_le0, n_le1, n_lt0, n_lt1, gc_v, gc_n, ↓reduceIte, and_true, true_and, and_self, or_self, or_false, false_or, not_false_eq_true, not_true_eq_false, false_and, and_false, Nat.reduceAdd, Nat.reduceEqDiff, Nat.reduceLeDiff, Nat.reduceLT]
        · simp (disch := first | omega | assumption) only [c1, c2, s75_63, s75_70, gT_wI, gR_wI, gL_wI, gS_wI, gU_wI, gI_wI, gJ_wI, gI_wJ, gJ_wJ, gR_wJ, gT_wJ, gL_wJ, gS_wJ, gU_wJ, gI_wR, gJ_wR, gR_wR, gT_wR, gL_wR, gS_wR, gU_wR, wI_wI, wJ_wJ, wR_wR, j_s, j_add, j_addL, j_addR, j_mulL, j_mulR, j_cl, j_clL, j_neg, j_negL, j_nn, j_lt, j_le, j_eq, j_ltL, j_ltR, j_leL, j_leR, j_eqL, j_eqR, j_m1, j_m1L, j_m1R, j_eqLL, j_ltLL, j_leLL, n_le0, n_le1, n_lt0, n_lt1, gc_v, gc_n, ↓reduceIte, and_true, true_and, and_self, or_self, or_false, false_or, not_false_eq_true, not_true_eq_false, false_and, and_false, Nat.reduceAdd, Nat.reduceEqDiff, Nat.reduceLeDiff, Nat.reduceLT]
    · refine ⟨s, ?_, qs⟩
      have ec : pLook D p (k + 1) = pLook D p k := by
        show (if dBk D (k + 1) = -1 then _ else _) = _
        rw [if_neg t]
        rfl
      rw [ec, s75_20]
      simp (disch := first | omega | assumption) only [hgs.1, e76, t, s75_33, i10, s75_70, gT_wI, gR_wI, gL_wI, gS_wI, gU_wI, gI_wI, gJ_wI, gI_wJ, gJ_wJ, gR_wJ, gT_wJ, gL_wJ, gS_wJ, gU_wJ, gI_wR, gJ_wR, gR_wR, gT_wR, gL_wR, gS_wR, gU_wR, wI_wI, wJ_wJ, wR_wR, j_s, j_add, j_addL, j_addR, j_mulL, j_mulR, j_cl, j_clL, j_neg, j_negL, j_nn, j_lt, j_le, j_eq, j_ltL, j_ltR, j_leL, j_leR, j_eqL, j_eqR, j_m1, j_m1L, j_m1R, j_eqLL, j_ltLL, j_leLL, n_le0, n_le1, n_lt0, n_lt1, gc_v, gc_n, ↓reduceIte, and_true, true_and, and_self, or_self, or_false, false_or, not_false_eq_true, not_true_eq_false, false_and, and_false, Nat.reduceAdd, Nat.reduceEqDiff, Nat.reduceLeDiff, Nat.reduceLT]
theorem x75a {D : gdD} {v v2 : Int32} (hv : v < 0 ∨ Int32.ofNat (eN (dE D)) ≤ v) : XNo 75 [.int v, .int v2] D 24 := by
  intro d h hd hi hD
  obtain ⟨a, σ, m, h145, hσ, hs, hx, hr, hm, hl, hE, ha, hT9⟩ := hi.nw hD
  have hg := hi.1
  have hz : 4 ≤ gS h := by have := hi.2.2.2.2.2.2.2.2.2.2; omega
  obtain ⟨d, rfl⟩ : ∃ e, d = e + 1 := ⟨d - 1, by omega⟩
  obtain ⟨⟨hA1, hA2, hS1⟩, ⟨tA, rA8, tLw, rA9⟩, ⟨rA0, tA1, lA1⟩, ⟨rA1, tA2, lA2⟩, ⟨rA2, tA3, lA3⟩, ⟨rA3, tA4, lA4⟩, ⟨rA4, tA5, lA5⟩, ⟨rA5, tA6, lA6⟩, ⟨rA6, tA7, lA7⟩, ⟨rA7, tA8⟩, tS, ⟨rS0, tS1, lS1⟩, ⟨rS1, tS2, lS2⟩, ⟨rS2, tS3, lS3⟩, ⟨rS3, tS4, lS4⟩, ⟨rS4, tS5, lS5⟩, ⟨rS5, tS6, lS6⟩⟩ := id hs
  obtain ⟨⟨hB, hN⟩, ⟨iB, iN⟩, iG, iK, iR, cH, cF, cO, cA, cC, cW, cT, cG, cM, cL⟩ := id hx
  rw [r75, s75_0]
  simp (disch := first | omega | assumption) only [hg.1, hσ, h145, tA, rA8, tLw, rA9, rA0, tA1, lA1, rA1, tA2, lA2, rA2, tA3, lA3, rA3, tA4, lA4, rA4, tA5, lA5, rA5, tA6, lA6, rA6, tA7, lA7, rA7, tA8, tS, rS0, tS1, lS1, rS1, tS2, lS2, rS2, tS3, lS3, rS3, tS4, lS4, rS4, tS5, lS5, rS5, tS6, lS6, iB, iN, iG, iK, iR, cH, cF, cO, cA, cC, cT, cG, cM, cL, sp64n hg hz hσ hs hx (d := d) (by omega) hv, gc_x, gx_n (k := 75) (pc := 2) (t := 24) rfl, gT_wI, gR_wI, gL_wI, gS_wI, gU_wI, gI_wI, gJ_wI, gI_wJ, gJ_wJ, gR_wJ, gT_wJ, gL_wJ, gS_wJ, gU_wJ, gI_wR, gJ_wR, gR_wR, gT_wR, gL_wR, gS_wR, gU_wR, wI_wI, wJ_wJ, wR_wR, j_s, j_add, j_addL, j_addR, j_mulL, j_mulR, j_cl, j_clL, j_neg, j_negL, j_nn, j_lt, j_le, j_eq, j_ltL, j_ltR, j_leL, j_leR, j_eqL, j_eqR, j_m1, j_m1L, j_m1R, j_eqLL, j_ltLL, j_leLL, n_le0, n_le1, n_lt0, n_lt1, gc_v, gc_n, ↓reduceIte, and_true, true_and, and_self, or_self, or_false, false_or, not_false_eq_true, not_true_eq_false, false_and, and_false, Nat.reduceAdd, Nat.reduceEqDiff, Nat.reduceLeDiff, Nat.reduceLT]
theorem x75b {D : gdD} {p : Nat} (hp : p < eN (dE D)) {v2 : Int32} (hv : v2 < 0 ∨ 1 < v2) : XNo 75 [.int (Int32.ofNat p), .int v2] D 25 := by
  intro d h hd hi hD
  obtain ⟨a, σ, m, h145, hσ, hs, hx, hr, hm, hl, hE, ha, hT9⟩ := hi.nw hD
  have hg := hi.1
  have hz : 4 ≤ gS h := by have := hi.2.2.2.2.2.2.2.2.2.2; omega
  obtain ⟨d, rfl⟩ : ∃ e, d = e + 1 := ⟨d - 1, by omega⟩
  obtain ⟨⟨hA1, hA2, hS1⟩, ⟨tA, rA8, tLw, rA9⟩, ⟨rA0, tA1, lA1⟩, ⟨rA1, tA2, lA2⟩, ⟨rA2, tA3, lA3⟩, ⟨rA3, tA4, lA4⟩, ⟨rA4, tA5, lA5⟩, ⟨rA5, tA6, lA6⟩, ⟨rA6, tA7, lA7⟩, ⟨rA7, tA8⟩, tS, ⟨rS0, tS1, lS1⟩, ⟨rS1, tS2, lS2⟩, ⟨rS2, tS3, lS3⟩, ⟨rS3, tS4, lS4⟩, ⟨rS4, tS5, lS5⟩, ⟨rS5, tS6, lS6⟩⟩ := id hs
  obtain ⟨⟨hB, hN⟩, ⟨iB, iN⟩, iG, iK, iR, cH, cF, cO, cA, cC, cW, cT, cG, cM, cL⟩ := id hx
  rw [r75, s75_0]
  simp (disch := first | omega | assumption) only [hg.1, hσ, h145, tA, rA8, tLw, rA9, rA0, tA1, lA1, rA1, tA2, lA2, rA2, tA3, lA3, rA3, tA4, lA4, rA4, tA5, lA5, rA5, tA6, lA6, rA6, tA7, lA7, rA7, tA8, tS, rS0, tS1, lS1, rS1, tS2, lS2, rS2, tS3, lS3, rS3, tS4, lS4, rS4, tS5, lS5, rS5, tS6, lS6, iB, iN, iG, iK, iR, cH, cF, cO, cA, cC, cT, cG, cM, cL, sp64 hg hσ hs hx (d := d) (by omega) hp, s75_5, sp53n hg hz (d := d) (by omega) hv, gc_x, gx_n (k := 75) (pc := 9) (t := 25) rfl, gT_wI, gR_wI, gL_wI, gS_wI, gU_wI, gI_wI, gJ_wI, gI_wJ, gJ_wJ, gR_wJ, gT_wJ, gL_wJ, gS_wJ, gU_wJ, gI_wR, gJ_wR, gR_wR, gT_wR, gL_wR, gS_wR, gU_wR, wI_wI, wJ_wJ, wR_wR, j_s, j_add, j_addL, j_addR, j_mulL, j_mulR, j_cl, j_clL, j_neg, j_negL, j_nn, j_lt, j_le, j_eq, j_ltL, j_ltR, j_leL, j_leR, j_eqL, j_eqR, j_m1, j_m1L, j_m1R, j_eqLL, j_ltLL, j_leLL, n_le0, n_le1, n_lt0, n_lt1, gc_v, gc_n, ↓reduceIte, and_true, true_and, and_self, or_self, or_false, false_or, not_false_eq_true, not_true_eq_false, false_and, and_false, Nat.reduceAdd, Nat.reduceEqDiff, Nat.reduceLeDiff, Nat.reduceLT]

/-! ===== ladder, rung: the model ===== -/
set_option maxRecDepth 100000
theorem sp256 {h : gd_H} {D : gdD} (hi : MI h D) {d : Nat} (hd : 2 ≤ d) : ∃ I', run gd_P0 d 256 [.ref 1231] h = some (.inl (some (.int (vLad D))), wI h I') ∧ (∀ b, b ≠ 1258 → I' b = gI h b) ∧ ∀ b, b < eN (dE D) → I' 1258 b = Int32.ofNat (lF (dNow D) (eN (dE D)) b) := by
  obtain ⟨d, rfl⟩ : ∃ e, d = e + 1 := ⟨d - 1, by omega⟩
  obtain ⟨hm, ⟨hB, hN⟩, ⟨iB, iN, iA⟩, -, -, -, i7, -⟩ := id hi
  unfold vLad
  generalize eN (dE D) = N at *
  generalize dNow D = r at *
  have HN : ∀ I : Nat → Nat → Int32, (∀ b, b ≠ 1258 → I b = gI h b) → I 1231 21 = Int32.ofNat N ∧ ∀ p, p < 7 → I 1250 p = r p := by
    intro I hI
    rw [hI 1231 (by omega), hI 1250 (by omega)]
    exact ⟨iN, fun p hp => i7 p (by omega)⟩
  have A := lp_e (fun i I => go gd_P0 d 256 9 [.ref 1231, .int (Int32.ofNat (lL r N i)), .int (Int32.ofNat (N - i) - 1), .null] [] (wI h I)) (fun i I => (∀ b, b ≠ 1258 → I b = gI h b) ∧ ∀ b, N - i ≤ b → b < N → I 1258 b = Int32.ofNat (lF r N b)) N (gI h) ⟨fun _ _ => rfl, fun b h1 h2 => by omega⟩ ?_
  · obtain ⟨I, e1, i1, i2⟩ := A
    refine ⟨I, ?_, i1, fun b hb => i2 b (by omega) hb⟩
    rw [r256, s256_0]
    simp (disch := first | omega | assumption) only [hm.t, m_r38 hm, m_t38 hm, m_l38 hm, m_r48 hm, m_t48 hm, m_l48 hm, iN, gT_wI, gR_wI, gL_wI, gS_wI, gU_wI, gI_wI, gJ_wI, gI_wJ, gJ_wJ, gR_wJ, gT_wJ, gL_wJ, gS_wJ, gU_wJ, gI_wR, gJ_wR, gR_wR, gT_wR, gL_wR, gS_wR, gU_wR, wI_wI, wJ_wJ, wR_wR, j_s, j_add, j_addL, j_addR, j_mulL, j_mulR, j_cl, j_clL, j_neg, j_negL, j_nn, j_lt, j_le, j_eq, j_ltL, j_ltR, j_leL, j_leR, j_eqL, j_eqR, j_m1, j_m1L, j_m1R, j_eqLL, j_ltLL, j_leLL, n_le0, n_le1, n_lt0, n_lt1, gc_v, gc_n, ↓reduceIte, and_true, true_and, and_self, or_self, or_false, false_or, not_false_eq_true, not_true_eq_false, false_and, and_false, Nat.reduceAdd, Nat.reduceEqDiff, Nat.reduceLeDiff, Nat.reduceLT]
    refine Eq.trans e1 ?_
    try dsimp only
    have en : Int32.ofNat (N - N) - 1 < 0 := by rw [Nat.sub_self]; decide
    rw [s256_9, if_pos en]
  · intro i hi7 I ⟨hI, hF⟩
    try dsimp only
    obtain ⟨k, ek⟩ : ∃ k, N - i = k + 1 := ⟨N - i - 1, by omega⟩
    have ek2 : N - 1 - i = k := by omega
    have hI0 : ∀ b, b ≠ 1258 → up1 I 1258 k 1 b = gI h b := fun b b1 => by rw [up1_nc _ _ _ b1]; exact hI b b1
    have hF0 : ∀ b, k < b → b < N → up1 I 1258 k 1 1258 b = Int32.ofNat (lF r N b) := fun b b1 b2 => by rw [up1_nj _ _ (by omega)]; exact hF b (by omega) b2
    have L := lp_e (fun t J => go gd_P0 d 256 24 [.ref 1231, .int (Int32.ofNat (lL r N i)), .int (Int32.ofNat k), .int (Int32.ofNat (k + 1 + t))] [] (wI h J)) (fun t J => (∀ b, b ≠ 1258 → J b = gI h b) ∧ (∀ b, k < b → b < N → J 1258 b = Int32.ofNat (lF r N b)) ∧ J 1258 k = Int32.ofNat (lIn r (lF r N) k t)) (N - 1 - k) (up1 I 1258 k 1) ⟨hI0, hF0, up1_eq _ _ _ _⟩ ?_
    · obtain ⟨J, e1, j1, j2, j3⟩ := L
      rw [← lF_eq r (show k < N by omega)] at j3
      obtain ⟨iN2, cH2⟩ := HN J j1
      have hL7 := lL_7 r N i (by omega)
      have F7 := lF_7 r (show k < N by omega)
      have em : Int32.ofNat k + -1 = Int32.ofNat k - 1 := (Int32.sub_eq_add_neg _ _).symm
      refine ⟨J, ?_, j1, fun b b1 b2 => ?_⟩
      · rw [ek, lL_s, ek2, show N - (i + 1) = k by omega, ← j_s, Int32.add_sub_cancel, s256_9]
        simp (disch := first | omega | assumption) only [hm.t, m_r38 hm, m_t38 hm, m_l38 hm, m_r48 hm, m_t48 hm, m_l48 hm, gT_wI, gR_wI, gL_wI, gS_wI, gU_wI, gI_wI, gJ_wI, gI_wJ, gJ_wJ, gR_wJ, gT_wJ, gL_wJ, gS_wJ, gU_wJ, gI_wR, gJ_wR, gR_wR, gT_wR, gL_wR, gS_wR, gU_wR, wI_wI, wJ_wJ, wR_wR, j_s, j_add, j_addL, j_addR, j_mulL, j_mulR, j_cl, j_clL, j_neg, j_negL, j_nn, j_lt, j_le, j_eq, j_ltL, j_ltR, j_leL, j_leR, j_eqL, j_eqR, j_m1, j_m1L, j_m1R, j_eqLL, j_ltLL, j_leLL, n_le0, n_le1, n_lt0, n_lt1, gc_v, gc_n, ↓reduceIte, and_true, true_and, and_self, or_self, or_false, false_or, not_false_eq_true, not_true_eq_false, false_and, and_false, Nat.reduceAdd, Nat.reduceEqDiff, Nat.reduceLeDiff, Nat.reduceLT]
        refine Eq.trans e1 ?_
        rw [s256_24, show k + 1 + (N - 1 - k) = N by omega]
        by_cases c : lL r N i < lF r N k
        · simp (disch := first | omega | assumption) only [hm.t, m_r38 hm, m_t38 hm, m_l38 hm, m_r48 hm, m_t48 hm, m_l48 hm, iN2, j3, c, Nat.le_refl, s256_108, em, gT_wI, gR_wI, gL_wI, gS_wI, gU_wI, gI_wI, gJ_wI, gI_wJ, gJ_wJ, gR_wJ, gT_wJ, gL_wJ, gS_wJ, gU_wJ, gI_wR, gJ_wR, gR_wR, gT_wR, gL_wR, gS_wR, gU_wR, wI_wI, wJ_wJ, wR_wR, j_s, j_add, j_addL, j_addR, j_mulL, j_mulR, j_cl, j_clL, j_neg, j_negL, j_nn, j_lt, j_le, j_eq, j_ltL, j_ltR, j_leL, j_leR, j_eqL, j_eqR, j_m1, j_m1L, j_m1R, j_eqLL, j_ltLL, j_leLL, n_le0, n_le1, n_lt0, n_lt1, gc_v, gc_n, ↓reduceIte, and_true, true_and, and_self, or_self, or_false, false_or, not_false_eq_true, not_true_eq_false, false_and, and_false, Nat.reduceAdd, Nat.reduceEqDiff, Nat.reduceLeDiff, Nat.reduceLT]
        · have c' : lF r N k ≤ lL r N i := by omega
          simp (disch := first | omega | assumption) only [hm.t, m_r38 hm, m_t38 hm, m_l38 hm, m_r48 hm, m_t48 hm, m_l48 hm, iN2, j3, c, c', Nat.le_refl, s256_108, em, gT_wI, gR_wI, gL_wI, gS_wI, gU_wI, gI_wI, gJ_wI, gI_wJ, gJ_wJ, gR_wJ, gT_wJ, gL_wJ, gS_wJ, gU_wJ, gI_wR, gJ_wR, gR_wR, gT_wR, gL_wR, gS_wR, gU_wR, wI_wI, wJ_wJ, wR_wR, j_s, j_add, j_addL, j_addR, j_mulL, j_mulR, j_cl, j_clL, j_neg, j_negL, j_nn, j_lt, j_le, j_eq, j_ltL, j_ltR, j_leL, j_leR, j_eqL, j_eqR, j_m1, j_m1L, j_m1R, j_eqLL, j_ltLL, j_leLL, n_le0, n_le1, n_lt0, n_lt1, gc_v, gc_n, ↓reduceIte, and_true, true_and, and_self, or_self, or_false, false_or, not_false_eq_true, not_true_eq_false, false_and, and_false, Nat.reduceAdd, Nat.reduceEqDiff, Nat.reduceLeDiff, Nat.reduceLT]
      · by_cases z : b = k
        · subst z; exact j3
        · exact j2 b (by omega) b2
    · intro t ht J ⟨j1, j2, j3⟩
      try dsimp only
      obtain ⟨iN2, cH2⟩ := HN J j1
      have q1 := cH2 k (by omega)
      have q2 := cH2 (k + 1 + t) (by omega)
      have q3 := j2 (k + 1 + t) (by omega) (by omega)
      have F7 := lF_7 r (show k + 1 + t < N by omega)
      have I7 := lIn_7 r (N := N) (a := k) t (by omega)
      by_cases c : r k < r (k + 1 + t)
      · have c' : ¬ r (k + 1 + t) ≤ r k := Int32.not_le.mpr c
        by_cases c2 : lIn r (lF r N) k t < 1 + lF r N (k + 1 + t)
        · have c3 : ¬ lF r N (k + 1 + t) + 1 ≤ lIn r (lF r N) k t := by omega
          refine ⟨up1 J 1258 k (Int32.ofNat (lF r N (k + 1 + t) + 1)), ?_, fun b b1 => by rw [up1_nc _ _ _ b1]; exact j1 b b1, fun b b1 b2 => by rw [up1_nj _ _ (by omega)]; exact j2 b b1 b2, ?_⟩
          · rw [s256_24]
            simp (disch := first | omega | assumption) only [hm.t, m_r38 hm, m_t38 hm, m_l38 hm, m_r48 hm, m_t48 hm, m_l48 hm, iN2, q1, q2, q3, j3, c', c3, Nat.zero_add, s256_82, gT_wI, gR_wI, gL_wI, gS_wI, gU_wI, gI_wI, gJ_wI, gI_wJ, gJ_wJ, gR_wJ, gT_wJ, gL_wJ, gS_wJ, gU_wJ, gI_wR, gJ_wR, gR_wR, gT_wR, gL_wR, gS_wR, gU_wR, wI_wI, wJ_wJ, wR_wR, j_s, j_add, j_addL, j_addR, j_mulL, j_mulR, j_cl, j_clL, j_neg, j_negL, j_nn, j_lt, j_le, j_eq, j_ltL, j_ltR, j_leL, j_leR, j_eqL, j_eqR, j_m1, j_m1L, j_m1R, j_eqLL, j_ltLL, j_leLL, n_le0, n_le1, n_lt0, n_lt1, gc_v, gc_n, ↓reduceIte, and_true, true_and, and_self, or_self, or_false, false_or, not_false_eq_true, not_true_eq_false, false_and, and_false, Nat.reduceAdd, Nat.reduceEqDiff, Nat.reduceLeDiff, Nat.reduceLT]
            try rfl
          · rw [up1_eq, lIn_s, if_pos c, if_pos c2, Nat.add_comm 1]
        · have c3 : lF r N (k + 1 + t) + 1 ≤ lIn r (lF r N) k t := by omega
          refine ⟨J, ?_, j1, j2, ?_⟩
          · rw [s256_24]
            simp (disch := first | omega | assumption) only [hm.t, m_r38 hm, m_t38 hm, m_l38 hm, m_r48 hm, m_t48 hm, m_l48 hm, iN2, q1, q2, q3, j3, c', c3, Nat.zero_add, s256_82, gT_wI, gR_wI, gL_wI, gS_wI, gU_wI, gI_wI, gJ_wI, gI_wJ, gJ_wJ, gR_wJ, gT_wJ, gL_wJ, gS_wJ, gU_wJ, gI_wR, gJ_wR, gR_wR, gT_wR, gL_wR, gS_wR, gU_wR, wI_wI, wJ_wJ, wR_wR, j_s, j_add, j_addL, j_addR, j_mulL, j_mulR, j_cl, j_clL, j_neg, j_negL, j_nn, j_lt, j_le, j_eq, j_ltL, j_ltR, j_leL, j_leR, j_eqL, j_eqR, j_m1, j_m1L, j_m1R, j_eqLL, j_ltLL, j_leLL, n_le0, n_le1, n_lt0, n_lt1, gc_v, gc_n, ↓reduceIte, and_true, true_and, and_self, or_self, or_false, false_or, not_false_eq_true, not_true_eq_false, false_and, and_false, Nat.reduceAdd, Nat.reduceEqDiff, Nat.reduceLeDiff, Nat.reduceLT]
            try rfl
          · rw [lIn_s, if_pos c, if_neg c2]; exact j3
      · refine ⟨J, ?_, j1, j2, ?_⟩
        · have c' : r (k + 1 + t) ≤ r k := Int32.not_lt.mp c
          rw [s256_24]
          simp (disch := first | omega | assumption) only [hm.t, m_r38 hm, m_t38 hm, m_l38 hm, m_r48 hm, m_t48 hm, m_l48 hm, iN2, q1, q2, c', Nat.zero_add, s256_82, gT_wI, gR_wI, gL_wI, gS_wI, gU_wI, gI_wI, gJ_wI, gI_wJ, gJ_wJ, gR_wJ, gT_wJ, gL_wJ, gS_wJ, gU_wJ, gI_wR, gJ_wR, gR_wR, gT_wR, gL_wR, gS_wR, gU_wR, wI_wI, wJ_wJ, wR_wR, j_s, j_add, j_addL, j_addR, j_mulL, j_mulR, j_cl, j_clL, j_neg, j_negL, j_nn, j_lt, j_le, j_eq, j_ltL, j_ltR, j_leL, j_leR, j_eqL, j_eqR, j_m1, j_m1L, j_m1R, j_eqLL, j_ltLL, j_leLL, n_le0, n_le1, n_lt0, n_lt1, gc_v, gc_n, ↓reduceIte, and_true, true_and, and_self, or_self, or_false, false_or, not_false_eq_true, not_true_eq_false, false_and, and_false, Nat.reduceAdd, Nat.reduceEqDiff, Nat.reduceLeDiff, Nat.reduceLT]
          try rfl
        · rw [lIn_s, if_neg c]; exact j3
theorem m255 {D : gdD} : MOk 255 [] D (.int (vLad D)) := by
  intro d h hd hi hD
  obtain ⟨d, rfl⟩ : ∃ e, d = e + 1 := ⟨d - 1, by omega⟩
  obtain ⟨hz, ez, hiz, z0, qz⟩ := hi.z
  have hm := hi.1
  have hmz := hiz.1
  obtain ⟨I', e, i1, -⟩ := sp256 hiz (d := d) (by omega)
  refine ⟨wI hz I', ?_, qz.trans (MZ.i (fun b hb => i1 b (by unfold mper at hb; omega))), ?_⟩
  · rw [r255, s255_0]
    simp (disch := first | omega | assumption) only [hm.t, ez, e, s255_9, gT_wI, gR_wI, gL_wI, gS_wI, gU_wI, gI_wI, gJ_wI, gI_wJ, gJ_wJ, gR_wJ, gT_wJ, gL_wJ, gS_wJ, gU_wJ, gI_wR, gJ_wR, gR_wR, gT_wR, gL_wR, gS_wR, gU_wR, wI_wI, wJ_wJ, wR_wR, j_s, j_add, j_addL, j_addR, j_mulL, j_mulR, j_cl, j_clL, j_neg, j_negL, j_nn, j_lt, j_le, j_eq, j_ltL, j_ltR, j_leL, j_leR, j_eqL, j_eqR, j_m1, j_m1L, j_m1R, j_eqLL, j_ltLL, j_leLL, n_le0, n_le1, n_lt0, n_lt1, gc_v, gc_n, ↓reduceIte, and_true, true_and, and_self, or_self, or_false, false_or, not_false_eq_true, not_true_eq_false, false_and, and_false, Nat.reduceAdd, Nat.reduceEqDiff, Nat.reduceLeDiff, Nat.reduceLT]
  · rw [gI_wI, i1 1231 (by omega)]; exact z0
theorem m257 {D : gdD} {k : Nat} (hk : k < 2147483647) : MOk 257 [.int (Int32.ofNat k)] D (.int (vRung D k)) := by
  intro d h hd hi hD
  obtain ⟨d, rfl⟩ : ∃ e, d = e + 1 := ⟨d - 1, by omega⟩
  obtain ⟨hz, ez, hiz, z0, qz⟩ := hi.z
  have hm := hi.1
  have hmz := hiz.1
  obtain ⟨I', e, i1, i2⟩ := sp256 hiz (d := d) (by omega)
  have e183 := sp183 hmz z0 (d := d) (by omega) 1 1
  have iN : gI hz 1231 21 = Int32.ofNat (eN (dE D)) := hiz.2.2.1.2.1
  have hN : eN (dE D) ≤ 7 := hiz.2.1.2
  have i7 : ∀ p, p < 7 → I' 1250 p = dNow D p := fun p hp => by rw [i1 1250 (by omega)]; exact hiz.2.2.2.2.2.2.1 p (by omega)
  refine ⟨wI hz I', ?_, qz.trans (MZ.i (fun b hb => i1 b (by unfold mper at hb; omega))), by rw [gI_wI, i1 1231 (by omega)]; exact z0⟩
  unfold vRung
  unfold vLad at e
  generalize eN (dE D) = N at *
  generalize dNow D = r at *
  have hL7 := lL_7 r N N (Nat.le_refl _)
  have hms : MS (wI hz I') := hmz
  rw [r257, s257_0]
  simp (disch := first | omega | assumption) only [hm.t, ez, e183, s257_15, s257_20, e, hmz.t, i10, gT_wI, gR_wI, gL_wI, gS_wI, gU_wI, gI_wI, gJ_wI, gI_wJ, gJ_wJ, gR_wJ, gT_wJ, gL_wJ, gS_wJ, gU_wJ, gI_wR, gJ_wR, gR_wR, gT_wR, gL_wR, gS_wR, gU_wR, wI_wI, wJ_wJ, wR_wR, j_s, j_add, j_addL, j_addR, j_mulL, j_mulR, j_cl, j_clL, j_neg, j_negL, j_nn, j_lt, j_le, j_eq, j_ltL, j_ltR, j_leL, j_leR, j_eqL, j_eqR, j_m1, j_m1L, j_m1R, j_eqLL, j_ltLL, j_leLL, n_le0, n_le1, n_lt0, n_lt1, gc_v, gc_n, ↓reduceIte, and_true, true_and, and_self, or_self, or_false, false_or, not_false_eq_true, not_true_eq_false, false_and, and_false, Nat.reduceAdd, Nat.reduceEqDiff, Nat.reduceLeDiff, Nat.reduceLT]
  by_cases c : lL r N N ≤ k
  · have c' : ¬ k < lL r N N := by omega
    simp (disch := first | omega | assumption) only [s257_29, c, c', gT_wI, gR_wI, gL_wI, gS_wI, gU_wI, gI_wI, gJ_wI, gI_wJ, gJ_wJ, gR_wJ, gT_wJ, gL_wJ, gS_wJ, gU_wJ, gI_wR, gJ_wR, gR_wR, gT_wR, gL_wR, gS_wR, gU_wR, wI_wI, wJ_wJ, wR_wR, j_s, j_add, j_addL, j_addR, j_mulL, j_mulR, j_cl, j_clL, j_neg, j_negL, j_nn, j_lt, j_le, j_eq, j_ltL, j_ltR, j_leL, j_leR, j_eqL, j_eqR, j_m1, j_m1L, j_m1R, j_eqLL, j_ltLL, j_leLL, n_le0, n_le1, n_lt0, n_lt1, gc_v, gc_n, ↓reduceIte, and_true, true_and, and_self, or_self, or_false, false_or, not_false_eq_true, not_true_eq_false, false_and, and_false, Nat.reduceAdd, Nat.reduceEqDiff, Nat.reduceLeDiff, Nat.reduceLT]
  · have c' : k < lL r N N := by omega
    simp (disch := first | omega | assumption) only [s257_29, c, c', gT_wI, gR_wI, gL_wI, gS_wI, gU_wI, gI_wI, gJ_wI, gI_wJ, gJ_wJ, gR_wJ, gT_wJ, gL_wJ, gS_wJ, gU_wJ, gI_wR, gJ_wR, gR_wR, gT_wR, gL_wR, gS_wR, gU_wR, wI_wI, wJ_wJ, wR_wR, j_s, j_add, j_addL, j_addR, j_mulL, j_mulR, j_cl, j_clL, j_neg, j_negL, j_nn, j_lt, j_le, j_eq, j_ltL, j_ltR, j_leL, j_leR, j_eqL, j_eqR, j_m1, j_m1L, j_m1R, j_eqLL, j_ltLL, j_leLL, n_le0, n_le1, n_lt0, n_lt1, gc_v, gc_n, ↓reduceIte, and_true, true_and, and_self, or_self, or_false, false_or, not_false_eq_true, not_true_eq_false, false_and, and_false, Nat.reduceAdd, Nat.reduceEqDiff, Nat.reduceLeDiff, Nat.reduceLT]
    have L := lp_f (fun j (x : Unit) => go gd_P0 d 257 42 [.ref 1231, .int (Int32.ofNat k), .int (Int32.ofNat (lL r N N)), .int (if j = 0 then -1 else Int32.ofNat (lR r N (j - 1))), .int (Int32.ofNat j), .null] [] (wI hz I')) (fun j x => ()) (k + 1) () ?_
    · refine Eq.trans L ?_
      try dsimp only
      have ck : k < k + 1 := by omega
      rw [if_neg (by omega : ¬ k + 1 = 0), s257_42]
      simp (disch := first | omega | assumption) only [ck, gT_wI, gR_wI, gL_wI, gS_wI, gU_wI, gI_wI, gJ_wI, gI_wJ, gJ_wJ, gR_wJ, gT_wJ, gL_wJ, gS_wJ, gU_wJ, gI_wR, gJ_wR, gR_wR, gT_wR, gL_wR, gS_wR, gU_wR, wI_wI, wJ_wJ, wR_wR, j_s, j_add, j_addL, j_addR, j_mulL, j_mulR, j_cl, j_clL, j_neg, j_negL, j_nn, j_lt, j_le, j_eq, j_ltL, j_ltR, j_leL, j_leR, j_eqL, j_eqR, j_m1, j_m1L, j_m1R, j_eqLL, j_ltLL, j_leLL, n_le0, n_le1, n_lt0, n_lt1, gc_v, gc_n, ↓reduceIte, and_true, true_and, and_self, or_self, or_false, false_or, not_false_eq_true, not_true_eq_false, false_and, and_false, Nat.reduceAdd, Nat.reduceEqDiff, Nat.reduceLeDiff, Nat.reduceLT]
      rfl
    · intro j hj x
      try dsimp only
      obtain ⟨p1, p2, p3, p4⟩ := lR_p r N j (by omega)
      have es : Int32.ofNat (lL r N N) - Int32.ofNat j = Int32.ofNat (lL r N N - j) := j_sub (by omega)
      obtain ⟨st, es2, es3, es4⟩ : ∃ st, (if j = 0 then -1 else Int32.ofNat (lR r N (j - 1))) + 1 = Int32.ofNat st ∧ st ≤ lR r N j ∧ ∀ a, st ≤ a → (j = 0 ∨ lR r N (j - 1) < a) := by
        by_cases j0 : j = 0
        · subst j0
          exact ⟨0, by rw [if_pos rfl]; rfl, by omega, fun a _ => Or.inl rfl⟩
        · rw [if_neg j0]
          exact ⟨lR r N (j - 1) + 1, j_s _, by have := p3.resolve_left j0; omega, fun a ha => Or.inr (by omega)⟩
      have S9 : ∀ b, b < N → ∀ w, (lC r N j b ∧ w = 98 ∨ ¬ lC r N j b ∧ w = 92) → go gd_P0 d 257 53 [.ref 1231, .int (Int32.ofNat k), .int (Int32.ofNat (lL r N N)), .int (if j = 0 then -1 else Int32.ofNat (lR r N (j - 1))), .int (Int32.ofNat j), .int (Int32.ofNat b)] [] (wI hz I') = go gd_P0 d 257 w [.ref 1231, .int (Int32.ofNat k), .int (Int32.ofNat (lL r N N)), .int (if j = 0 then -1 else Int32.ofNat (lR r N (j - 1))), .int (Int32.ofNat j), .int (Int32.ofNat b)] [] (wI hz I') := by
        intro b hb w hw
        have f0 := i2 b hb
        have f1 := i7 b (by omega)
        have F7 := lF_7 r hb
        rw [s257_53]
        by_cases c1 : lF r N b = lL r N N - j
        · by_cases j0 : j = 0
          · have hc : lC r N j b := ⟨c1, Or.inl j0⟩
            have ew : w = 98 := (hw.resolve_right (fun z => z.1 hc)).2
            rw [if_pos j0, ew]
            simp (disch := first | omega | assumption) only [hms.t, m_r38 hms, m_t38 hms, m_l38 hms, m_r48 hms, m_t48 hms, m_l48 hms, f0, es, c1, gT_wI, gR_wI, gL_wI, gS_wI, gU_wI, gI_wI, gJ_wI, gI_wJ, gJ_wJ, gR_wJ, gT_wJ, gL_wJ, gS_wJ, gU_wJ, gI_wR, gJ_wR, gR_wR, gT_wR, gL_wR, gS_wR, gU_wR, wI_wI, wJ_wJ, wR_wR, j_s, j_add, j_addL, j_addR, j_mulL, j_mulR, j_cl, j_clL, j_neg, j_negL, j_nn, j_lt, j_le, j_eq, j_ltL, j_ltR, j_leL, j_leR, j_eqL, j_eqR, j_m1, j_m1L, j_m1R, j_eqLL, j_ltLL, j_leLL, n_le0, n_le1, n_lt0, n_lt1, gc_v, gc_n, ↓reduceIte, and_true, true_and, and_self, or_self, or_false, false_or, not_false_eq_true, not_true_eq_false, false_and, and_false, Nat.reduceAdd, Nat.reduceEqDiff, Nat.reduceLeDiff, Nat.reduceLT]
          · have g0 := (lR_p r N (j - 1) (by omega)).1
            have g1 := i7 (lR r N (j - 1)) (by omega)
            rw [if_neg j0]
            by_cases c2 : r (lR r N (j - 1)) < r b
            · have hc : lC r N j b := ⟨c1, Or.inr c2⟩
              have ew : w = 98 := (hw.resolve_right (fun z => z.1 hc)).2
              rw [ew]
              simp (disch := first | omega | assumption) only [hms.t, m_r38 hms, m_t38 hms, m_l38 hms, m_r48 hms, m_t48 hms, m_l48 hms, f0, f1, g1, es, c1, c2, Nat.zero_add, gT_wI, gR_wI, gL_wI, gS_wI, gU_wI, gI_wI, gJ_wI, gI_wJ, gJ_wJ, gR_wJ, gT_wJ, gL_wJ, gS_wJ, gU_wJ, gI_wR, gJ_wR, gR_wR, gT_wR, gL_wR, gS_wR, gU_wR, wI_wI, wJ_wJ, wR_wR, j_s, j_add, j_addL, j_addR, j_mulL, j_mulR, j_cl, j_clL, j_neg, j_negL, j_nn, j_lt, j_le, j_eq, j_ltL, j_ltR, j_leL, j_leR, j_eqL, j_eqR, j_m1, j_m1L, j_m1R, j_eqLL, j_ltLL, j_leLL, n_le0, n_le1, n_lt0, n_lt1, gc_v, gc_n, ↓reduceIte, and_true, true_and, and_self, or_self, or_false, false_or, not_false_eq_true, not_true_eq_false, false_and, and_false, Nat.reduceAdd, Nat.reduceEqDiff, Nat.reduceLeDiff, Nat.reduceLT]
            · have hc : ¬ lC r N j b := fun z => c2 (z.2.resolve_left j0)
              have ew : w = 92 := (hw.resolve_left (fun z => hc z.1)).2
              rw [ew]
              simp (disch := first | omega | assumption) only [hms.t, m_r38 hms, m_t38 hms, m_l38 hms, m_r48 hms, m_t48 hms, m_l48 hms, f0, f1, g1, es, c1, c2, Nat.zero_add, gT_wI, gR_wI, gL_wI, gS_wI, gU_wI, gI_wI, gJ_wI, gI_wJ, gJ_wJ, gR_wJ, gT_wJ, gL_wJ, gS_wJ, gU_wJ, gI_wR, gJ_wR, gR_wR, gT_wR, gL_wR, gS_wR, gU_wR, wI_wI, wJ_wJ, wR_wR, j_s, j_add, j_addL, j_addR, j_mulL, j_mulR, j_cl, j_clL, j_neg, j_negL, j_nn, j_lt, j_le, j_eq, j_ltL, j_ltR, j_leL, j_leR, j_eqL, j_eqR, j_m1, j_m1L, j_m1R, j_eqLL, j_ltLL, j_leLL, n_le0, n_le1, n_lt0, n_lt1, gc_v, gc_n, ↓reduceIte, and_true, true_and, and_self, or_self, or_false, false_or, not_false_eq_true, not_true_eq_false, false_and, and_false, Nat.reduceAdd, Nat.reduceEqDiff, Nat.reduceLeDiff, Nat.reduceLT]
        · have hc : ¬ lC r N j b := fun z => c1 z.1
          have ew : w = 92 := (hw.resolve_left (fun z => hc z.1)).2
          rw [ew]
          simp (disch := first | omega | assumption) only [hms.t, m_r38 hms, m_t38 hms, m_l38 hms, m_r48 hms, m_t48 hms, m_l48 hms, f0, es, c1, gT_wI, gR_wI, gL_wI, gS_wI, gU_wI, gI_wI, gJ_wI, gI_wJ, gJ_wJ, gR_wJ, gT_wJ, gL_wJ, gS_wJ, gU_wJ, gI_wR, gJ_wR, gR_wR, gT_wR, gL_wR, gS_wR, gU_wR, wI_wI, wJ_wJ, wR_wR, j_s, j_add, j_addL, j_addR, j_mulL, j_mulR, j_cl, j_clL, j_neg, j_negL, j_nn, j_lt, j_le, j_eq, j_ltL, j_ltR, j_leL, j_leR, j_eqL, j_eqR, j_m1, j_m1L, j_m1R, j_eqLL, j_ltLL, j_leLL, n_le0, n_le1, n_lt0, n_lt1, gc_v, gc_n, ↓reduceIte, and_true, true_and, and_self, or_self, or_false, false_or, not_false_eq_true, not_true_eq_false, false_and, and_false, Nat.reduceAdd, Nat.reduceEqDiff, Nat.reduceLeDiff, Nat.reduceLT]
      have W : ∀ n b, b + n = lR r N j → st ≤ b → go gd_P0 d 257 53 [.ref 1231, .int (Int32.ofNat k), .int (Int32.ofNat (lL r N N)), .int (if j = 0 then -1 else Int32.ofNat (lR r N (j - 1))), .int (Int32.ofNat j), .int (Int32.ofNat b)] [] (wI hz I') = go gd_P0 d 257 98 [.ref 1231, .int (Int32.ofNat k), .int (Int32.ofNat (lL r N N)), .int (if j = 0 then -1 else Int32.ofNat (lR r N (j - 1))), .int (Int32.ofNat j), .int (Int32.ofNat (lR r N j))] [] (wI hz I') := by
        intro n
        induction n with
        | zero =>
          intro b hb hs
          have eb : b = lR r N j := hb
          subst eb
          exact S9 _ p1 98 (Or.inl ⟨p2, rfl⟩)
        | succ n ih =>
          intro b hb hs
          rw [S9 b (by omega) 92 (Or.inr ⟨p4 b (es4 b hs) (by omega), rfl⟩), s257_92, j_s]
          exact ih (b + 1) (by omega) (by omega)
      have ck : ¬ k < j := by omega
      rw [s257_42]
      simp (disch := first | omega | assumption) only [ck, es2, gT_wI, gR_wI, gL_wI, gS_wI, gU_wI, gI_wI, gJ_wI, gI_wJ, gJ_wJ, gR_wJ, gT_wJ, gL_wJ, gS_wJ, gU_wJ, gI_wR, gJ_wR, gR_wR, gT_wR, gL_wR, gS_wR, gU_wR, wI_wI, wJ_wJ, wR_wR, j_s, j_add, j_addL, j_addR, j_mulL, j_mulR, j_cl, j_clL, j_neg, j_negL, j_nn, j_lt, j_le, j_eq, j_ltL, j_ltR, j_leL, j_leR, j_eqL, j_eqR, j_m1, j_m1L, j_m1R, j_eqLL, j_ltLL, j_leLL, n_le0, n_le1, n_lt0, n_lt1, gc_v, gc_n, ↓reduceIte, and_true, true_and, and_self, or_self, or_false, false_or, not_false_eq_true, not_true_eq_false, false_and, and_false, Nat.reduceAdd, Nat.reduceEqDiff, Nat.reduceLeDiff, Nat.reduceLT]
      rw [W (lR r N j - st) st (by omega) (Nat.le_refl _), s257_98, j_s, Nat.add_sub_cancel]
      exact (s257_42 ..).trans (s257_42 ..).symm
theorem m257a {D : gdD} {v : Int32} (hv : v < 0) : MNo 257 [.int v] D 25 1 (.int 0) := by
  intro d h hd hi hD
  obtain ⟨d, rfl⟩ : ∃ e, d = e + 1 := ⟨d - 1, by omega⟩
  obtain ⟨hz, ez, hiz, z0, qz⟩ := hi.z
  have hm := hi.1
  have hmz := hiz.1
  have e183 := sp183n hmz z0 (d := d) (by omega) (c := 1) (by decide) 25 (by omega) (by omega)
  rw [r257, s257_0, if_pos hv]
  simp only [hm.t, ez, s257_15, hmz.t, ↓reduceIte]
  refine Eq.trans (congrArg (gc gd_P0 d 257 _ _ _ _) e183) ?_
  rw [gc_v, s257_20]
  subst ez
  rw [mthr_z]
  rfl

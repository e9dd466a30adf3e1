/-! ===== MONTHS AHEAD, the model's side ===== -/
set_option maxRecDepth 100000
theorem MI.mc0 {h : gd_H} {D : gdD} (hi : MI h D) : MC (gI h) (dE D) (-1) (gI h 1251) := by
  obtain ⟨hm, hBN, i1, i4, i5, i6, i7, -⟩ := hi
  exact ⟨hBN, i1, fun k hk => (i4 k hk).2, i5, i6, fun j _ => rfl⟩
theorem TM.start {h : gd_H} {D : gdD} (hi : MI h D) : ∃ hz, wI h (up1 (gI h) 1231 0 0) = hz ∧ MI hz D ∧ gI hz 1231 0 = 0 ∧ ∃ ht, (∀ d, 2 ≤ d → run gd_P0 d 211 [.ref 1231] hz = some (.inl none, ht)) ∧ TM h ht D (-1) (dNow D) := by
  obtain ⟨hz, e1, e2, e3, tz⟩ := TM.z hi
  have t0 := tz _ e2.mc0
  refine ⟨hz, e1, e2, e3, wI hz (tk (gI hz)), fun d hd => sp211 e2.1 hd, ?_⟩
  obtain ⟨h', f1, f2⟩ := sp211t hi t0 (d := 2) (Nat.le_refl _)
  have f3 := (sp211 e2.1 (d := 2) (Nat.le_refl _)).symm.trans f1
  injection f3 with f4
  injection f4 with _ f5
  rw [f5]
  exact f2
theorem m242 {D : gdD} {n w : Nat} (hn : n ≤ 99) (hw : w ≤ 2) : MOk 242 [.int (Int32.ofNat n), .int (Int32.ofNat w)] D (.int (vAhead D n w)) := by
  intro d h hd hi hD
  obtain ⟨d, rfl⟩ : ∃ e, d = e + 1 := ⟨d - 1, by omega⟩
  obtain ⟨hz, ez, hiz, z0, ht, e211, t1⟩ := TM.start hi
  have hm := hi.1
  have hmz := hiz.1
  obtain ⟨m, hm4, hr⟩ := hD.2.1 (dW D) (Nat.le_refl _)
  have hE := hD.1
  have e183 := sp183 hmz z0 (d := d) (by omega) 1 1
  have L := lp_e (fun i s => go gd_P0 d 242 46 [.ref 1231, .int (Int32.ofNat n), .int (Int32.ofNat w), .int (Int32.ofNat i)] [] s) (fun i s => TM h s D (-1) (mN (dE D) (-1) i (dNow D))) n ht t1 ?_
  · obtain ⟨h2, e2, t2⟩ := L
    obtain ⟨hm2, hx2, hl2⟩ := t2.x hi
    obtain ⟨⟨hB, hN⟩, ⟨iB, iN, iA⟩, iG, iK, iR, cS⟩ := id hx2
    have hr2 := RI.mN hE (Or.inl rfl) hr n (by omega)
    obtain ⟨q1, q2⟩ := t2.mz hi
    refine ⟨h2, ?_, q1, q2⟩
    rw [r242, s242_0]
    simp only [hm.t, ez, sp233 (d := d) (by omega), ↓reduceIte]
    simp (disch := first | omega | assumption) only [hmz.t, s242_13, i10, s242_22, s242_30, e183, s242_35, e211, s242_44, sp233 (d := d) (by omega), gT_wI, gR_wI, gL_wI, gS_wI, gU_wI, gI_wI, gJ_wI, gI_wJ, gJ_wJ, gR_wJ, gT_wJ, gL_wJ, gS_wJ, gU_wJ, gI_wR, gJ_wR, gR_wR, gT_wR, gL_wR, gS_wR, gU_wR, wI_wI, wJ_wJ, wR_wR, j_s, j_add, j_addL, j_addR, j_mulL, j_mulR, j_cl, j_clL, j_neg, j_negL, j_nn, j_lt, j_le, j_eq, j_ltL, j_ltR, j_leL, j_leR, j_eqL, j_eqR, j_m1, j_m1L, j_m1R, j_eqLL, j_ltLL, j_leLL, n_le0, n_le1, n_lt0, n_lt1, gc_v, gc_n, ↓reduceIte, and_true, true_and, and_self, or_self, or_false, false_or, not_false_eq_true, not_true_eq_false, false_and, and_false, Nat.reduceAdd, Nat.reduceEqDiff, Nat.reduceLeDiff, Nat.reduceLT]
    refine Eq.trans e2 ?_
    try dsimp only
    rw [s242_46]
    unfold vAhead
    rcases c03 hw with rfl | rfl | rfl
    all_goals simp (disch := first | omega | assumption) only [hm2.t, iB, sp216 (d := d) (by omega) hm2 hx2, sp243 (d := d) (by omega) hm2 hx2, sp235 (d := d) (by omega) hm2 hx2 hr2, s242_73, s242_85, s242_92, gT_wI, gR_wI, gL_wI, gS_wI, gU_wI, gI_wI, gJ_wI, gI_wJ, gJ_wJ, gR_wJ, gT_wJ, gL_wJ, gS_wJ, gU_wJ, gI_wR, gJ_wR, gR_wR, gT_wR, gL_wR, gS_wR, gU_wR, wI_wI, wJ_wJ, wR_wR, j_s, j_add, j_addL, j_addR, j_mulL, j_mulR, j_cl, j_clL, j_neg, j_negL, j_nn, j_lt, j_le, j_eq, j_ltL, j_ltR, j_leL, j_leR, j_eqL, j_eqR, j_m1, j_m1L, j_m1R, j_eqLL, j_ltLL, j_leLL, n_le0, n_le1, n_lt0, n_lt1, gc_v, gc_n, ↓reduceIte, and_true, true_and, and_self, or_self, or_false, false_or, not_false_eq_true, not_true_eq_false, false_and, and_false, Nat.reduceAdd, Nat.reduceEqDiff, Nat.reduceLeDiff, Nat.reduceLT]
  · intro i hi3 s ht
    try dsimp only
    obtain ⟨hm2, -, -⟩ := ht.x hi
    obtain ⟨s', e219, t'⟩ := tm219 hi ht hE (RI.mN hE (Or.inl rfl) hr i (by omega)) (by omega) (d := d) (by omega)
    refine ⟨s', ?_, t'⟩
    rw [s242_46]
    simp (disch := first | omega | assumption) only [hm2.t, e219, s242_55, gT_wI, gR_wI, gL_wI, gS_wI, gU_wI, gI_wI, gJ_wI, gI_wJ, gJ_wJ, gR_wJ, gT_wJ, gL_wJ, gS_wJ, gU_wJ, gI_wR, gJ_wR, gR_wR, gT_wR, gL_wR, gS_wR, gU_wR, wI_wI, wJ_wJ, wR_wR, j_s, j_add, j_addL, j_addR, j_mulL, j_mulR, j_cl, j_clL, j_neg, j_negL, j_nn, j_lt, j_le, j_eq, j_ltL, j_ltR, j_leL, j_leR, j_eqL, j_eqR, j_m1, j_m1L, j_m1R, j_eqLL, j_ltLL, j_leLL, n_le0, n_le1, n_lt0, n_lt1, gc_v, gc_n, ↓reduceIte, and_true, true_and, and_self, or_self, or_false, false_or, not_false_eq_true, not_true_eq_false, false_and, and_false, Nat.reduceAdd, Nat.reduceEqDiff, Nat.reduceLeDiff, Nat.reduceLT]
theorem m242a {D : gdD} {v v2 : Int32} (hv : v < 0 ∨ 99 < v ∨ v2 < 0 ∨ 2 < v2) : MNo 242 [.int v, .int v2] D 25 1 (.int 0) := by
  intro d h hd hi hD
  obtain ⟨d, rfl⟩ : ∃ e, d = e + 1 := ⟨d - 1, by omega⟩
  obtain ⟨hz, ez, hiz, z0, qz⟩ := hi.z
  have hm := hi.1
  have hmz := hiz.1
  have e183 := sp183n hmz z0 (d := d) (by omega) (c := 1) (by decide) 25 (by omega) (by omega)
  have fin : go gd_P0 d 242 29 [.ref 1231, .int v, .int v2, .null] [.ref 1231] hz = some (.inl (some (.int 0)), mthr 25 1 h) := by
    rw [s242_29, s242_30]
    simp only [hmz.t, ↓reduceIte]
    refine Eq.trans (congrArg (gc gd_P0 d 242 _ _ _ _) e183) ?_
    rw [gc_v, s242_35, if_pos rfl]
    subst ez
    rw [mthr_z]
  rw [r242, s242_0]
  simp only [hm.t, ez, sp233 (d := d) (by omega), ↓reduceIte, gc_v, s242_13]
  by_cases a1 : v < 0
  · simp only [a1, ↓reduceIte]; exact fin
  · by_cases a2 : 99 < v
    · simp only [a1, a2, ↓reduceIte]; exact fin
    · simp only [a1, a2, i10, ↓reduceIte, sp233 (d := d) (by omega), gc_v, s242_22]
      by_cases a3 : v2 < 0
      · simp only [a3, ↓reduceIte]; exact fin
      · have a4 : 2 < v2 := by
          rcases hv with z | z | z | z
          · exact absurd z a1
          · exact absurd z a2
          · exact absurd z a3
          · exact z
        simp only [a3, a4, ↓reduceIte]; exact fin
theorem m244 {D : gdD} {p q : Nat} (hp : p < eN (dE D)) (hq : q < eN (dE D)) (hpq : p ≠ q) : MOk 244 [.int (Int32.ofNat p), .int (Int32.ofNat q)] D (.int (vPass D p q)) := by
  intro d h hd hi hD
  obtain ⟨d, rfl⟩ : ∃ e, d = e + 1 := ⟨d - 1, by omega⟩
  obtain ⟨hz, ez, hiz, z0, ht, e211, t1⟩ := TM.start hi
  have hm := hi.1
  have hmz := hiz.1
  obtain ⟨m, hm4, hr⟩ := hD.2.1 (dW D) (Nat.le_refl _)
  have hE := hD.1
  have e183 := sp183 hmz z0 (d := d) (by omega) 2 1
  have e1 := sp239 hiz z0 (d := d) (by omega) hp 1
  have e2 := sp239 hiz z0 (d := d) (by omega) hq 1
  have npq : (p = q) = False := eq_false hpq
  have hN : eN (dE D) ≤ 7 := hi.2.1.2
  have L := lp_fx (fun i s => go gd_P0 d 244 50 [.ref 1231, .int (Int32.ofNat p), .int (Int32.ofNat q), .int (Int32.ofNat i)] [] s) (fun v s => some (.inl (some (.int v)), s)) (fun i s => TM h s D (-1) (mN (dE D) (-1) i (dNow D))) (fun s => MZ h s ∧ gI s 1231 0 = 0) (fun k => decide (mN (dE D) (-1) k (dNow D) q < mN (dE D) (-1) k (dNow D) p)) Int32.ofNat (-1) 100 0 ht t1 ?_ ?_
  · obtain ⟨h2, e3, q1, q2⟩ := L
    refine ⟨h2, ?_, q1, q2⟩
    rw [r244, s244_0]
    simp only [hm.t, ez, ↓reduceIte]
    simp (disch := first | omega | assumption) only [hmz.t, e1, e2, s244_11, i10, s244_20, npq, s244_34, e183, s244_39, e211, s244_48, gT_wI, gR_wI, gL_wI, gS_wI, gU_wI, gI_wI, gJ_wI, gI_wJ, gJ_wJ, gR_wJ, gT_wJ, gL_wJ, gS_wJ, gU_wJ, gI_wR, gJ_wR, gR_wR, gT_wR, gL_wR, gS_wR, gU_wR, wI_wI, wJ_wJ, wR_wR, j_s, j_add, j_addL, j_addR, j_mulL, j_mulR, j_cl, j_clL, j_neg, j_negL, j_nn, j_lt, j_le, j_eq, j_ltL, j_ltR, j_leL, j_leR, j_eqL, j_eqR, j_m1, j_m1L, j_m1R, j_eqLL, j_ltLL, j_leLL, n_le0, n_le1, n_lt0, n_lt1, gc_v, gc_n, ↓reduceIte, and_true, true_and, and_self, or_self, or_false, false_or, not_false_eq_true, not_true_eq_false, false_and, and_false, Nat.reduceAdd, Nat.reduceEqDiff, Nat.reduceLeDiff, Nat.reduceLT]
    exact e3
  · intro i s i0 hi3 ht
    try dsimp only
    obtain ⟨hm2, hx2, hl2⟩ := ht.x hi
    obtain ⟨⟨hB, hN⟩, ⟨iB, iN, iA⟩, iG, iK, iR, cS⟩ := id hx2
    refine ⟨fun hc => ⟨s, ?_, ht.mz hi⟩, fun hc => ?_⟩
    · have c := Int32.not_le.mpr (of_decide_eq_true hc)
      rw [s244_50]
      simp (disch := first | omega | assumption) only [hm2.t, m_r39 hm2, m_t39 hm2, m_l39 hm2, cS, c, Nat.zero_add, gT_wI, gR_wI, gL_wI, gS_wI, gU_wI, gI_wI, gJ_wI, gI_wJ, gJ_wJ, gR_wJ, gT_wJ, gL_wJ, gS_wJ, gU_wJ, gI_wR, gJ_wR, gR_wR, gT_wR, gL_wR, gS_wR, gU_wR, wI_wI, wJ_wJ, wR_wR, j_s, j_add, j_addL, j_addR, j_mulL, j_mulR, j_cl, j_clL, j_neg, j_negL, j_nn, j_lt, j_le, j_eq, j_ltL, j_ltR, j_leL, j_leR, j_eqL, j_eqR, j_m1, j_m1L, j_m1R, j_eqLL, j_ltLL, j_leLL, n_le0, n_le1, n_lt0, n_lt1, gc_v, gc_n, ↓reduceIte, and_true, true_and, and_self, or_self, or_false, false_or, not_false_eq_true, not_true_eq_false, false_and, and_false, Nat.reduceAdd, Nat.reduceEqDiff, Nat.reduceLeDiff, Nat.reduceLT]
    · have c := Int32.not_lt.mp (of_decide_eq_false hc)
      obtain ⟨s', e219, t'⟩ := tm219 hi ht hE (RI.mN hE (Or.inl rfl) hr i (by omega)) (by omega) (d := d) (by omega)
      refine ⟨s', ?_, t'⟩
      rw [s244_50]
      simp (disch := first | omega | assumption) only [hm2.t, m_r39 hm2, m_t39 hm2, m_l39 hm2, cS, c, e219, s244_81, Nat.zero_add, gT_wI, gR_wI, gL_wI, gS_wI, gU_wI, gI_wI, gJ_wI, gI_wJ, gJ_wJ, gR_wJ, gT_wJ, gL_wJ, gS_wJ, gU_wJ, gI_wR, gJ_wR, gR_wR, gT_wR, gL_wR, gS_wR, gU_wR, wI_wI, wJ_wJ, wR_wR, j_s, j_add, j_addL, j_addR, j_mulL, j_mulR, j_cl, j_clL, j_neg, j_negL, j_nn, j_lt, j_le, j_eq, j_ltL, j_ltR, j_leL, j_leR, j_eqL, j_eqR, j_m1, j_m1L, j_m1R, j_eqLL, j_ltLL, j_leLL, n_le0, n_le1, n_lt0, n_lt1, gc_v, gc_n, ↓reduceIte, and_true, true_and, and_self, or_self, or_false, false_or, not_false_eq_true, not_true_eq_false, false_and, and_false, Nat.reduceAdd, Nat.reduceEqDiff, Nat.reduceLeDiff, Nat.reduceLT]
  · intro s ht
    refine ⟨s, ?_, ht.mz hi⟩
    try dsimp only
    rw [s244_50]
    simp (disch := first | omega | assumption) only [Nat.zero_add, gT_wI, gR_wI, gL_wI, gS_wI, gU_wI, gI_wI, gJ_wI, gI_wJ, gJ_wJ, gR_wJ, gT_wJ, gL_wJ, gS_wJ, gU_wJ, gI_wR, gJ_wR, gR_wR, gT_wR, gL_wR, gS_wR, gU_wR, wI_wI, wJ_wJ, wR_wR, j_s, j_add, j_addL, j_addR, j_mulL, j_mulR, j_cl, j_clL, j_neg, j_negL, j_nn, j_lt, j_le, j_eq, j_ltL, j_ltR, j_leL, j_leR, j_eqL, j_eqR, j_m1, j_m1L, j_m1R, j_eqLL, j_ltLL, j_leLL, n_le0, n_le1, n_lt0, n_lt1, gc_v, gc_n, ↓reduceIte, and_true, true_and, and_self, or_self, or_false, false_or, not_false_eq_true, not_true_eq_false, false_and, and_false, Nat.reduceAdd, Nat.reduceEqDiff, Nat.reduceLeDiff, Nat.reduceLT]
theorem m244a {D : gdD} {v v2 : Int32} (hv : v < 0 ∨ Int32.ofNat (eN (dE D)) ≤ v) : MNo 244 [.int v, .int v2] D 24 1 (.int 0) := by
  intro d h hd hi hD
  obtain ⟨d, rfl⟩ : ∃ e, d = e + 1 := ⟨d - 1, by omega⟩
  obtain ⟨hz, ez, hiz, z0, qz⟩ := hi.z
  have hm := hi.1
  have hmz := hiz.1
  have e := sp239n hiz z0 (d := d) (by omega) hv (c := 1) (by decide)
  rw [r244, s244_0]
  simp only [hm.t, ez, ↓reduceIte]
  refine Eq.trans (congrArg (gc gd_P0 d 244 _ _ _ _) e) ?_
  rw [gc_v, s244_11]
  subst ez
  rw [mthr_z]
  rw [if_pos rfl, s244_42]
theorem m244b {D : gdD} {p : Nat} (hp : p < eN (dE D)) {v : Int32} (hv : v < 0 ∨ Int32.ofNat (eN (dE D)) ≤ v) : MNo 244 [.int (Int32.ofNat p), .int v] D 24 1 (.int 0) := by
  intro d h hd hi hD
  obtain ⟨d, rfl⟩ : ∃ e, d = e + 1 := ⟨d - 1, by omega⟩
  obtain ⟨hz, ez, hiz, z0, qz⟩ := hi.z
  have hm := hi.1
  have hmz := hiz.1
  have e1 := sp239 hiz z0 (d := d) (by omega) hp 1
  have e := sp239n hiz z0 (d := d) (by omega) hv (c := 1) (by decide)
  rw [r244, s244_0]
  simp only [hm.t, ez, e1, gc_v, s244_11, i10, hmz.t, ↓reduceIte]
  refine Eq.trans (congrArg (gc gd_P0 d 244 _ _ _ _) e) ?_
  rw [gc_v, s244_20, if_pos rfl, s244_42]
  subst ez
  rw [mthr_z]
theorem m244c {D : gdD} {p : Nat} (hp : p < eN (dE D)) : MNo 244 [.int (Int32.ofNat p), .int (Int32.ofNat p)] D 25 2 (.int 0) := by
  intro d h hd hi hD
  obtain ⟨d, rfl⟩ : ∃ e, d = e + 1 := ⟨d - 1, by omega⟩
  obtain ⟨hz, ez, hiz, z0, qz⟩ := hi.z
  have hm := hi.1
  have hmz := hiz.1
  have e1 := sp239 hiz z0 (d := d) (by omega) hp 1
  have e183 := sp183n hmz z0 (d := d) (by omega) (c := 2) (by decide) 25 (by omega) (by omega)
  rw [r244, s244_0]
  simp only [hm.t, ez, e1, gc_v, s244_11, i10, hmz.t, s244_20, s244_34, ↓reduceIte]
  refine Eq.trans (congrArg (gc gd_P0 d 244 _ _ _ _) e183) ?_
  rw [gc_v, s244_39, if_pos rfl, s244_42]
  subst ez
  rw [mthr_z]
theorem m245 {D : gdD} {p : Nat} (hp : p < eN (dE D)) : MOk 245 [.int (Int32.ofNat p)] D (.int (vSink D p)) := by
  intro d h hd hi hD
  obtain ⟨d, rfl⟩ : ∃ e, d = e + 1 := ⟨d - 1, by omega⟩
  obtain ⟨hz, ez, hiz, z0, ht, e211, t1⟩ := TM.start hi
  have hm := hi.1
  have hmz := hiz.1
  obtain ⟨m, hm4, hr⟩ := hD.2.1 (dW D) (Nat.le_refl _)
  have hE := hD.1
  have e1 := sp239 hiz z0 (d := d) (by omega) hp 1
  have hN : eN (dE D) ≤ 7 := hi.2.1.2
  have L := lp_fx (fun i s => go gd_P0 d 245 22 [.ref 1231, .int (Int32.ofNat p), .int (Int32.ofNat i)] [] s) (fun v s => some (.inl (some (.int v)), s)) (fun i s => TM h s D (-1) (mN (dE D) (-1) i (dNow D))) (fun s => MZ h s ∧ gI s 1231 0 = 0) (fun k => decide (pGain (mN (dE D) (-1) k (dNow D)) p < 0)) Int32.ofNat (-1) 100 0 ht t1 ?_ ?_
  · obtain ⟨h2, e3, q1, q2⟩ := L
    refine ⟨h2, ?_, q1, q2⟩
    rw [r245, s245_0]
    simp only [hm.t, ez, ↓reduceIte]
    simp (disch := first | omega | assumption) only [hmz.t, e1, s245_11, i10, e211, s245_20, gT_wI, gR_wI, gL_wI, gS_wI, gU_wI, gI_wI, gJ_wI, gI_wJ, gJ_wJ, gR_wJ, gT_wJ, gL_wJ, gS_wJ, gU_wJ, gI_wR, gJ_wR, gR_wR, gT_wR, gL_wR, gS_wR, gU_wR, wI_wI, wJ_wJ, wR_wR, j_s, j_add, j_addL, j_addR, j_mulL, j_mulR, j_cl, j_clL, j_neg, j_negL, j_nn, j_lt, j_le, j_eq, j_ltL, j_ltR, j_leL, j_leR, j_eqL, j_eqR, j_m1, j_m1L, j_m1R, j_eqLL, j_ltLL, j_leLL, n_le0, n_le1, n_lt0, n_lt1, gc_v, gc_n, ↓reduceIte, and_true, true_and, and_self, or_self, or_false, false_or, not_false_eq_true, not_true_eq_false, false_and, and_false, Nat.reduceAdd, Nat.reduceEqDiff, Nat.reduceLeDiff, Nat.reduceLT]
    exact e3
  · intro i s i0 hi3 ht
    try dsimp only
    obtain ⟨hm2, hx2, hl2⟩ := ht.x hi
    have hr2 := RI.mN hE (Or.inl rfl) hr i (by omega)
    refine ⟨fun hc => ⟨s, ?_, ht.mz hi⟩, fun hc => ?_⟩
    · have c := Int32.not_le.mpr (of_decide_eq_true hc)
      rw [s245_22]
      simp (disch := first | omega | assumption) only [hm2.t, sp222 (d := d) (by omega) hm2 hx2 hr2, s245_33, c, gT_wI, gR_wI, gL_wI, gS_wI, gU_wI, gI_wI, gJ_wI, gI_wJ, gJ_wJ, gR_wJ, gT_wJ, gL_wJ, gS_wJ, gU_wJ, gI_wR, gJ_wR, gR_wR, gT_wR, gL_wR, gS_wR, gU_wR, wI_wI, wJ_wJ, wR_wR, j_s, j_add, j_addL, j_addR, j_mulL, j_mulR, j_cl, j_clL, j_neg, j_negL, j_nn, j_lt, j_le, j_eq, j_ltL, j_ltR, j_leL, j_leR, j_eqL, j_eqR, j_m1, j_m1L, j_m1R, j_eqLL, j_ltLL, j_leLL, n_le0, n_le1, n_lt0, n_lt1, gc_v, gc_n, ↓reduceIte, and_true, true_and, and_self, or_self, or_false, false_or, not_false_eq_true, not_true_eq_false, false_and, and_false, Nat.reduceAdd, Nat.reduceEqDiff, Nat.reduceLeDiff, Nat.reduceLT]
    · have c := Int32.not_lt.mp (of_decide_eq_false hc)
      obtain ⟨s', e219, t'⟩ := tm219 hi ht hE hr2 (by omega) (d := d) (by omega)
      refine ⟨s', ?_, t'⟩
      rw [s245_22]
      simp (disch := first | omega | assumption) only [hm2.t, sp222 (d := d) (by omega) hm2 hx2 hr2, s245_33, c, e219, s245_42, gT_wI, gR_wI, gL_wI, gS_wI, gU_wI, gI_wI, gJ_wI, gI_wJ, gJ_wJ, gR_wJ, gT_wJ, gL_wJ, gS_wJ, gU_wJ, gI_wR, gJ_wR, gR_wR, gT_wR, gL_wR, gS_wR, gU_wR, wI_wI, wJ_wJ, wR_wR, j_s, j_add, j_addL, j_addR, j_mulL, j_mulR, j_cl, j_clL, j_neg, j_negL, j_nn, j_lt, j_le, j_eq, j_ltL, j_ltR, j_leL, j_leR, j_eqL, j_eqR, j_m1, j_m1L, j_m1R, j_eqLL, j_ltLL, j_leLL, n_le0, n_le1, n_lt0, n_lt1, gc_v, gc_n, ↓reduceIte, and_true, true_and, and_self, or_self, or_false, false_or, not_false_eq_true, not_true_eq_false, false_and, and_false, Nat.reduceAdd, Nat.reduceEqDiff, Nat.reduceLeDiff, Nat.reduceLT]
  · intro s ht
    refine ⟨s, ?_, ht.mz hi⟩
    try dsimp only
    rw [s245_22]
    simp (disch := first | omega | assumption) only [Nat.zero_add, gT_wI, gR_wI, gL_wI, gS_wI, gU_wI, gI_wI, gJ_wI, gI_wJ, gJ_wJ, gR_wJ, gT_wJ, gL_wJ, gS_wJ, gU_wJ, gI_wR, gJ_wR, gR_wR, gT_wR, gL_wR, gS_wR, gU_wR, wI_wI, wJ_wJ, wR_wR, j_s, j_add, j_addL, j_addR, j_mulL, j_mulR, j_cl, j_clL, j_neg, j_negL, j_nn, j_lt, j_le, j_eq, j_ltL, j_ltR, j_leL, j_leR, j_eqL, j_eqR, j_m1, j_m1L, j_m1R, j_eqLL, j_ltLL, j_leLL, n_le0, n_le1, n_lt0, n_lt1, gc_v, gc_n, ↓reduceIte, and_true, true_and, and_self, or_self, or_false, false_or, not_false_eq_true, not_true_eq_false, false_and, and_false, Nat.reduceAdd, Nat.reduceEqDiff, Nat.reduceLeDiff, Nat.reduceLT]
theorem m245a {D : gdD} {v : Int32} (hv : v < 0 ∨ Int32.ofNat (eN (dE D)) ≤ v) : MNo 245 [.int v] D 24 1 (.int 0) := by
  intro d h hd hi hD
  obtain ⟨d, rfl⟩ : ∃ e, d = e + 1 := ⟨d - 1, by omega⟩
  obtain ⟨hz, ez, hiz, z0, qz⟩ := hi.z
  have hm := hi.1
  have hmz := hiz.1
  have e := sp239n hiz z0 (d := d) (by omega) hv (c := 1) (by decide)
  rw [r245, s245_0]
  simp only [hm.t, ez, ↓reduceIte]
  refine Eq.trans (congrArg (gc gd_P0 d 245 _ _ _ _) e) ?_
  rw [gc_v, s245_11]
  subst ez
  rw [mthr_z]
  rfl
theorem m246 {D : gdD} {p n : Nat} (hp : p < eN (dE D)) (hn : n ≤ 99) : MOk 246 [.int (Int32.ofNat p), .int (Int32.ofNat n)] D (.int (vFeed D p n)) := by
  intro d h hd hi hD
  obtain ⟨d, rfl⟩ : ∃ e, d = e + 1 := ⟨d - 1, by omega⟩
  obtain ⟨hz, ez, hiz, z0, tz⟩ := TM.z hi
  have hm := hi.1
  have hmz := hiz.1
  obtain ⟨m, hm4, hr⟩ := hD.2.1 (dW D) (Nat.le_refl _)
  have hE := hD.1
  have e183 := sp183 hmz z0 (d := d) (by omega) 2 1
  have e1 := sp239 hiz z0 (d := d) (by omega) hp 1
  have hN : eN (dE D) ≤ 7 := hi.2.1.2
  have t0 := tz _ hiz.mc0
  have n0 : ¬ 99 < n := by omega
  have c14 : gI hz 1250 (14 + p) = dNow D (14 + p) := by obtain ⟨-, -, -, -, -, -, i7, -⟩ := id hiz; exact i7 _ (by omega)
  have L : ∃ s', go gd_P0 d 246 27 [.ref 1231, .int (Int32.ofNat p), .int (Int32.ofNat n), .null, .null] [.int 1] hz = some (.inl (some (.int (vFeed D p n))), s') ∧ MZ h s' ∧ gI s' 1231 0 = 0 := by
    unfold vFeed
    by_cases c0 : dNow D (14 + p) = -1
    · refine ⟨hz, ?_, t0.mz hi⟩
      rw [if_pos c0, s246_27]
      simp (disch := first | omega | assumption) only [hmz.t, m_r38 hmz, m_t38 hmz, m_l38 hmz, m_r39 hmz, m_t39 hmz, m_l39 hmz, i10, c14, c0, gT_wI, gR_wI, gL_wI, gS_wI, gU_wI, gI_wI, gJ_wI, gI_wJ, gJ_wJ, gR_wJ, gT_wJ, gL_wJ, gS_wJ, gU_wJ, gI_wR, gJ_wR, gR_wR, gT_wR, gL_wR, gS_wR, gU_wR, wI_wI, wJ_wJ, wR_wR, j_s, j_add, j_addL, j_addR, j_mulL, j_mulR, j_cl, j_clL, j_neg, j_negL, j_nn, j_lt, j_le, j_eq, j_ltL, j_ltR, j_leL, j_leR, j_eqL, j_eqR, j_m1, j_m1L, j_m1R, j_eqLL, j_ltLL, j_leLL, n_le0, n_le1, n_lt0, n_lt1, gc_v, gc_n, ↓reduceIte, and_true, true_and, and_self, or_self, or_false, false_or, not_false_eq_true, not_true_eq_false, false_and, and_false, Nat.reduceAdd, Nat.reduceEqDiff, Nat.reduceLeDiff, Nat.reduceLT]
    · rw [if_neg c0, s246_27]
      simp (disch := first | omega | assumption) only [hmz.t, m_r38 hmz, m_t38 hmz, m_l38 hmz, m_r39 hmz, m_t39 hmz, m_l39 hmz, i10, c14, c0, gT_wI, gR_wI, gL_wI, gS_wI, gU_wI, gI_wI, gJ_wI, gI_wJ, gJ_wJ, gR_wJ, gT_wJ, gL_wJ, gS_wJ, gU_wJ, gI_wR, gJ_wR, gR_wR, gT_wR, gL_wR, gS_wR, gU_wR, wI_wI, wJ_wJ, wR_wR, j_s, j_add, j_addL, j_addR, j_mulL, j_mulR, j_cl, j_clL, j_neg, j_negL, j_nn, j_lt, j_le, j_eq, j_ltL, j_ltR, j_leL, j_leR, j_eqL, j_eqR, j_m1, j_m1L, j_m1R, j_eqLL, j_ltLL, j_leLL, n_le0, n_le1, n_lt0, n_lt1, gc_v, gc_n, ↓reduceIte, and_true, true_and, and_self, or_self, or_false, false_or, not_false_eq_true, not_true_eq_false, false_and, and_false, Nat.reduceAdd, Nat.reduceEqDiff, Nat.reduceLeDiff, Nat.reduceLT]
      refine lp_fx (fun i s => go gd_P0 d 246 49 [.ref 1231, .int (Int32.ofNat p), .int (Int32.ofNat n), .int (Int32.ofNat i), .null] [] s) (fun v s => some (.inl (some (.int v)), s)) (fun i s => ∃ r, TM h s D (-1) r) (fun s => MZ h s ∧ gI s 1231 0 = 0) (fun f => decide (0 ≤ pGain (mN (dE D) (-1) n (rw1 (dNow D) (7 + p) (Int32.ofNat f))) p)) Int32.ofNat (-1) 10 0 hz ⟨_, t0⟩ ?_ ?_
      · intro f s f0 hf ⟨r0, qs⟩
        try dsimp only
        obtain ⟨hms, -, -⟩ := qs.x hi
        obtain ⟨h1, e211, t1⟩ := sp211t hi qs (d := d) (by omega)
        obtain ⟨hm1, hx1, hl1⟩ := t1.x hi
        have t1' : TM h (wI h1 (up1 (gI h1) 1251 (7 + p) (Int32.ofNat f))) D (-1) (rw1 (dNow D) (7 + p) (Int32.ofNat f)) := t1.i (hx1.w (by omega) _) (fun b hb => up1_nc _ _ _ (by unfold mper at hb; omega)) (fun j _ => by rw [up1_nc _ _ _ (by omega)])
        have hr1 : RI (dE D) m (rw1 (dNow D) (7 + p) (Int32.ofNat f)) := hr.rw (Or.inl (by omega))
        have L2 := lp_e (fun i s => go gd_P0 d 246 72 [.ref 1231, .int (Int32.ofNat p), .int (Int32.ofNat n), .int (Int32.ofNat f), .int (Int32.ofNat i)] [] s) (fun i s2 => TM h s2 D (-1) (mN (dE D) (-1) i (rw1 (dNow D) (7 + p) (Int32.ofNat f)))) n _ t1' ?_
        · obtain ⟨h2, e2, t2⟩ := L2
          obtain ⟨hm2, hx2, hl2⟩ := t2.x hi
          have hr2 := RI.mN hE (Or.inl rfl) hr1 n (by omega)
          have e49 : go gd_P0 d 246 49 [.ref 1231, .int (Int32.ofNat p), .int (Int32.ofNat n), .int (Int32.ofNat f), .null] [] s = go gd_P0 d 246 93 [.ref 1231, .int (Int32.ofNat p), .int (Int32.ofNat n), .int (Int32.ofNat f), .null] [.int (pGain (mN (dE D) (-1) n (rw1 (dNow D) (7 + p) (Int32.ofNat f))) p)] h2 := by
            rw [s246_49]
            simp (disch := first | omega | assumption) only [hms.t, e211, s246_59, hm1.t, m_r38 hm1, m_t38 hm1, m_l38 hm1, m_r39 hm1, m_t39 hm1, m_l39 hm1, gT_wI, gR_wI, gL_wI, gS_wI, gU_wI, gI_wI, gJ_wI, gI_wJ, gJ_wJ, gR_wJ, gT_wJ, gL_wJ, gS_wJ, gU_wJ, gI_wR, gJ_wR, gR_wR, gT_wR, gL_wR, gS_wR, gU_wR, wI_wI, wJ_wJ, wR_wR, j_s, j_add, j_addL, j_addR, j_mulL, j_mulR, j_cl, j_clL, j_neg, j_negL, j_nn, j_lt, j_le, j_eq, j_ltL, j_ltR, j_leL, j_leR, j_eqL, j_eqR, j_m1, j_m1L, j_m1R, j_eqLL, j_ltLL, j_leLL, n_le0, n_le1, n_lt0, n_lt1, gc_v, gc_n, ↓reduceIte, and_true, true_and, and_self, or_self, or_false, false_or, not_false_eq_true, not_true_eq_false, false_and, and_false, Nat.reduceAdd, Nat.reduceEqDiff, Nat.reduceLeDiff, Nat.reduceLT]
            refine Eq.trans e2 ?_
            try dsimp only
            rw [s246_72]
            simp (disch := first | omega | assumption) only [hm2.t, m_r38 hm2, m_t38 hm2, m_l38 hm2, m_r39 hm2, m_t39 hm2, m_l39 hm2, sp222 (d := d) (by omega) hm2 hx2 hr2, gT_wI, gR_wI, gL_wI, gS_wI, gU_wI, gI_wI, gJ_wI, gI_wJ, gJ_wJ, gR_wJ, gT_wJ, gL_wJ, gS_wJ, gU_wJ, gI_wR, gJ_wR, gR_wR, gT_wR, gL_wR, gS_wR, gU_wR, wI_wI, wJ_wJ, wR_wR, j_s, j_add, j_addL, j_addR, j_mulL, j_mulR, j_cl, j_clL, j_neg, j_negL, j_nn, j_lt, j_le, j_eq, j_ltL, j_ltR, j_leL, j_leR, j_eqL, j_eqR, j_m1, j_m1L, j_m1R, j_eqLL, j_ltLL, j_leLL, n_le0, n_le1, n_lt0, n_lt1, gc_v, gc_n, ↓reduceIte, and_true, true_and, and_self, or_self, or_false, false_or, not_false_eq_true, not_true_eq_false, false_and, and_false, Nat.reduceAdd, Nat.reduceEqDiff, Nat.reduceLeDiff, Nat.reduceLT]
            exact (s246_93 ..).trans (s246_93 ..).symm
          refine ⟨fun hc => ⟨h2, ?_, t2.mz hi⟩, fun hc => ⟨h2, ?_, _, t2⟩⟩
          · rw [e49, s246_93, if_neg (Int32.not_lt.mpr (of_decide_eq_true hc))]
          · rw [e49, s246_93, if_pos (Int32.not_le.mp (of_decide_eq_false hc)), j_s]
        · intro i hi3 s3 ht
          try dsimp only
          obtain ⟨hm2, hx2, hl2⟩ := ht.x hi
          obtain ⟨s', e219, t'⟩ := tm219 hi ht hE (RI.mN hE (Or.inl rfl) hr1 i (by omega)) (by omega) (d := d) (by omega)
          refine ⟨s', ?_, t'⟩
          rw [s246_72]
          simp (disch := first | omega | assumption) only [hm2.t, m_r38 hm2, m_t38 hm2, m_l38 hm2, m_r39 hm2, m_t39 hm2, m_l39 hm2, e219, s246_82, gT_wI, gR_wI, gL_wI, gS_wI, gU_wI, gI_wI, gJ_wI, gI_wJ, gJ_wJ, gR_wJ, gT_wJ, gL_wJ, gS_wJ, gU_wJ, gI_wR, gJ_wR, gR_wR, gT_wR, gL_wR, gS_wR, gU_wR, wI_wI, wJ_wJ, wR_wR, j_s, j_add, j_addL, j_addR, j_mulL, j_mulR, j_cl, j_clL, j_neg, j_negL, j_nn, j_lt, j_le, j_eq, j_ltL, j_ltR, j_leL, j_leR, j_eqL, j_eqR, j_m1, j_m1L, j_m1R, j_eqLL, j_ltLL, j_leLL, n_le0, n_le1, n_lt0, n_lt1, gc_v, gc_n, ↓reduceIte, and_true, true_and, and_self, or_self, or_false, false_or, not_false_eq_true, not_true_eq_false, false_and, and_false, Nat.reduceAdd, Nat.reduceEqDiff, Nat.reduceLeDiff, Nat.reduceLT]
      · intro s ⟨r0, qs⟩
        refine ⟨s, ?_, ?_⟩
        · try dsimp only
          rw [s246_49]
          simp (disch := first | omega | assumption) only [Nat.zero_add, gT_wI, gR_wI, gL_wI, gS_wI, gU_wI, gI_wI, gJ_wI, gI_wJ, gJ_wJ, gR_wJ, gT_wJ, gL_wJ, gS_wJ, gU_wJ, gI_wR, gJ_wR, gR_wR, gT_wR, gL_wR, gS_wR, gU_wR, wI_wI, wJ_wJ, wR_wR, j_s, j_add, j_addL, j_addR, j_mulL, j_mulR, j_cl, j_clL, j_neg, j_negL, j_nn, j_lt, j_le, j_eq, j_ltL, j_ltR, j_leL, j_leR, j_eqL, j_eqR, j_m1, j_m1L, j_m1R, j_eqLL, j_ltLL, j_leLL, n_le0, n_le1, n_lt0, n_lt1, gc_v, gc_n, ↓reduceIte, and_true, true_and, and_self, or_self, or_false, false_or, not_false_eq_true, not_true_eq_false, false_and, and_false, Nat.reduceAdd, Nat.reduceEqDiff, Nat.reduceLeDiff, Nat.reduceLT]
        · obtain ⟨I', rfl, a1, a2, a3, a4⟩ := qs
          exact TM.mz ⟨I', rfl, a1, a2, a3, a4⟩ hi
  obtain ⟨s', e2, q1, q2⟩ := L
  refine ⟨s', ?_, q1, q2⟩
  rw [r246, s246_0]
  simp only [hm.t, ez, ↓reduceIte]
  simp (disch := first | omega | assumption) only [hmz.t, e1, s246_11, i10, sp233 (d := d) (by omega), n0, s246_22, e183, gT_wI, gR_wI, gL_wI, gS_wI, gU_wI, gI_wI, gJ_wI, gI_wJ, gJ_wJ, gR_wJ, gT_wJ, gL_wJ, gS_wJ, gU_wJ, gI_wR, gJ_wR, gR_wR, gT_wR, gL_wR, gS_wR, gU_wR, wI_wI, wJ_wJ, wR_wR, j_s, j_add, j_addL, j_addR, j_mulL, j_mulR, j_cl, j_clL, j_neg, j_negL, j_nn, j_lt, j_le, j_eq, j_ltL, j_ltR, j_leL, j_leR, j_eqL, j_eqR, j_m1, j_m1L, j_m1R, j_eqLL, j_ltLL, j_leLL, n_le0, n_le1, n_lt0, n_lt1, gc_v, gc_n, ↓reduceIte, and_true, true_and, and_self, or_self, or_false, false_or, not_false_eq_true, not_true_eq_false, false_and, and_false, Nat.reduceAdd, Nat.reduceEqDiff, Nat.reduceLeDiff, Nat.reduceLT]
  exact e2
theorem m246a {D : gdD} {v v2 : Int32} (hv : v < 0 ∨ Int32.ofNat (eN (dE D)) ≤ v) : MNo 246 [.int v, .int v2] D 24 1 (.int 0) := by
  intro d h hd hi hD
  obtain ⟨d, rfl⟩ : ∃ e, d = e + 1 := ⟨d - 1, by omega⟩
  obtain ⟨hz, ez, hiz, z0, qz⟩ := hi.z
  have hm := hi.1
  have hmz := hiz.1
  have e := sp239n hiz z0 (d := d) (by omega) hv (c := 1) (by decide)
  rw [r246, s246_0]
  simp only [hm.t, ez, ↓reduceIte]
  refine Eq.trans (congrArg (gc gd_P0 d 246 _ _ _ _) e) ?_
  rw [gc_v, s246_11]
  subst ez
  rw [mthr_z]
  rw [if_pos rfl, s246_30]
theorem m246b {D : gdD} {p : Nat} (hp : p < eN (dE D)) {v : Int32} (hv : v < 0 ∨ 99 < v) : MNo 246 [.int (Int32.ofNat p), .int v] D 25 2 (.int 0) := by
  intro d h hd hi hD
  obtain ⟨d, rfl⟩ : ∃ e, d = e + 1 := ⟨d - 1, by omega⟩
  obtain ⟨hz, ez, hiz, z0, qz⟩ := hi.z
  have hm := hi.1
  have hmz := hiz.1
  have e237 := sp239 hiz z0 (d := d) (by omega) hp 1
  have e183 := sp183n hmz z0 (d := d) (by omega) (c := 2) (by decide) 25 (by omega) (by omega)
  have c0 : (if v < 0 then (0 : Int32) else if 99 < v then 0 else 1) = 0 := by
    rcases hv with h1 | h1
    · rw [if_pos h1]
    · by_cases h2 : v < 0
      · rw [if_pos h2]
      · rw [if_neg h2, if_pos h1]
  rw [r246, s246_0]
  simp only [hm.t, ez, e237, gc_v, s246_11, i10, sp233 (d := d) (by omega), c0, s246_22, hmz.t, ↓reduceIte]
  refine Eq.trans (congrArg (gc gd_P0 d 246 _ _ _ _) e183) ?_
  rw [gc_v, s246_27]
  subst ez
  rw [mthr_z]
  rw [if_pos rfl, s246_30]

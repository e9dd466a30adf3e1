/-! ===== fits, look: the model's answers ===== -/
set_option maxRecDepth 100000
theorem m258 {D : gdD} {p w : Nat} (hp : p < eN (dE D)) (hw : w ≤ 1) : MOk 258 [.int (Int32.ofNat p), .int (Int32.ofNat w)] D (.int (vFit D p w)) := by
  intro d h hd hi hD
  obtain ⟨d, rfl⟩ : ∃ e, d = e + 1 := ⟨d - 1, by omega⟩
  obtain ⟨hz, ez, hiz, z0, tz⟩ := TM.z hi
  have hm := hi.1
  have hmz := hiz.1
  obtain ⟨m, hm4, hr⟩ := hD.2.1 (dW D) (Nat.le_refl _)
  have hE := hD.1
  have e183 := sp183 hmz z0 (d := d) (by omega) 2 1
  have e1 := sp239 hiz z0 (d := d) (by omega) hp 1
  have t0 := tz _ hiz.mc0
  have n0 : ¬ 1 < w := by omega
  obtain ⟨s, e259, ⟨r1, ts⟩, ps⟩ := sp259 hi hD t0 (d := d) (by omega) hp
  obtain ⟨hms, -, -⟩ := ts.x hi
  have q2 : MZ h s ∧ gI s 1231 0 = 0 := by
    obtain ⟨I', rfl, a1, a2, a3, a4⟩ := ts
    exact TM.mz ⟨I', rfl, a1, a2, a3, a4⟩ hi
  have L := lp_e (fun i (x : Unit) => go gd_P0 d 258 44 [.ref 1231, .null, .int (Int32.ofNat w), .int (pFit D p i).1, .int (pFit D p i).2, .int (Int32.ofNat i)] [] s) (fun i x => True) 100 () trivial ?_
  · obtain ⟨-, e2, -⟩ := L
    refine ⟨s, ?_, q2.1, q2.2⟩
    rw [r258, s258_0]
    simp only [hm.t, ez, ↓reduceIte]
    simp (disch := first | omega | assumption) only [hmz.t, e1, s258_11, i10, sp233 (d := d) (by omega), n0, s258_21, e183, s258_26, e259, s258_36, gT_wI, gR_wI, gL_wI, gS_wI, gU_wI, gI_wI, gJ_wI, gI_wJ, gJ_wJ, gR_wJ, gT_wJ, gL_wJ, gS_wJ, gU_wJ, gI_wR, gJ_wR, gR_wR, gT_wR, gL_wR, gS_wR, gU_wR, wI_wI, wJ_wJ, wR_wR, j_s, j_add, j_addL, j_addR, j_mulL, j_mulR, j_cl, j_clL, j_neg, j_negL, j_nn, j_lt, j_le, j_eq, j_ltL, j_ltR, j_leL, j_leR, j_eqL, j_eqR, j_m1, j_m1L, j_m1R, j_eqLL, j_ltLL, j_leLL, n_le0, n_le1, n_lt0, n_lt1, gc_v, gc_n, ↓reduceIte, and_true, true_and, and_self, or_self, or_false, false_or, not_false_eq_true, not_true_eq_false, false_and, and_false, Nat.reduceAdd, Nat.reduceEqDiff, Nat.reduceLeDiff, Nat.reduceLT]
    refine Eq.trans e2 ?_
    try dsimp only
    rw [s258_44]
    unfold vFit
    rcases c02 hw with rfl | rfl
    all_goals simp (disch := first | omega | assumption) only [s258_98, gT_wI, gR_wI, gL_wI, gS_wI, gU_wI, gI_wI, gJ_wI, gI_wJ, gJ_wJ, gR_wJ, gT_wJ, gL_wJ, gS_wJ, gU_wJ, gI_wR, gJ_wR, gR_wR, gT_wR, gL_wR, gS_wR, gU_wR, wI_wI, wJ_wJ, wR_wR, j_s, j_add, j_addL, j_addR, j_mulL, j_mulR, j_cl, j_clL, j_neg, j_negL, j_nn, j_lt, j_le, j_eq, j_ltL, j_ltR, j_leL, j_leR, j_eqL, j_eqR, j_m1, j_m1L, j_m1R, j_eqLL, j_ltLL, j_leLL, n_le0, n_le1, n_lt0, n_lt1, gc_v, gc_n, ↓reduceIte, and_true, true_and, and_self, or_self, or_false, false_or, not_false_eq_true, not_true_eq_false, false_and, and_false, Nat.reduceAdd, Nat.reduceEqDiff, Nat.reduceLeDiff, Nat.reduceLT]
  · intro k hk x _
    refine ⟨(), ?_, trivial⟩
    try dsimp only
    have pk := (ps k hk).1
    show _ = go gd_P0 d 258 44 [.ref 1231, .null, .int (Int32.ofNat w), .int (if gOk D p k = true then ((pFit D p k).1 + 1, if (pFit D p k).2 = -1 then Int32.ofNat k else (pFit D p k).2) else pFit D p k).1, .int (if gOk D p k = true then ((pFit D p k).1 + 1, if (pFit D p k).2 = -1 then Int32.ofNat k else (pFit D p k).2) else pFit D p k).2, .int (Int32.ofNat (k + 1))] [] s
    rw [s258_44]
    by_cases g : gOk D p k = true
    · by_cases f0 : (pFit D p k).2 = -1
      · simp (disch := first | omega | assumption) only [hms.t, m_r50 hms, m_t50 hms, m_l50 hms, pk, g, f0, s258_80, s258_82, i10, gT_wI, gR_wI, gL_wI, gS_wI, gU_wI, gI_wI, gJ_wI, gI_wJ, gJ_wJ, gR_wJ, gT_wJ, gL_wJ, gS_wJ, gU_wJ, gI_wR, gJ_wR, gR_wR, gT_wR, gL_wR, gS_wR, gU_wR, wI_wI, wJ_wJ, wR_wR, j_s, j_add, j_addL, j_addR, j_mulL, j_mulR, j_cl, j_clL, j_neg, j_negL, j_nn, j_lt, j_le, j_eq, j_ltL, j_ltR, j_leL, j_leR, j_eqL, j_eqR, j_m1, j_m1L, j_m1R, j_eqLL, j_ltLL, j_leLL, n_le0, n_le1, n_lt0, n_lt1, gc_v, gc_n, ↓reduceIte, and_true, true_and, and_self, or_self, or_false, false_or, not_false_eq_true, not_true_eq_false, false_and, and_false, Nat.reduceAdd, Nat.reduceEqDiff, Nat.reduceLeDiff, Nat.reduceLT]
      · simp (disch := first | omega | assumption) only [hms.t, m_r50 hms, m_t50 hms, m_l50 hms, pk, g, f0, s258_80, s258_82, i10, gT_wI, gR_wI, gL_wI, gS_wI, gU_wI, gI_wI, gJ_wI, gI_wJ, gJ_wJ, gR_wJ, gT_wJ, gL_wJ, gS_wJ, gU_wJ, gI_wR, gJ_wR, gR_wR, gT_wR, gL_wR, gS_wR, gU_wR, wI_wI, wJ_wJ, wR_wR, j_s, j_add, j_addL, j_addR, j_mulL, j_mulR, j_cl, j_clL, j_neg, j_negL, j_nn, j_lt, j_le, j_eq, j_ltL, j_ltR, j_leL, j_leR, j_eqL, j_eqR, j_m1, j_m1L, j_m1R, j_eqLL, j_ltLL, j_leLL, n_le0, n_le1, n_lt0, n_lt1, gc_v, gc_n, ↓reduceIte, and_true, true_and, and_self, or_self, or_false, false_or, not_false_eq_true, not_true_eq_false, false_and, and_false, Nat.reduceAdd, Nat.reduceEqDiff, Nat.reduceLeDiff, Nat.reduceLT]
    · simp (disch := first | omega | assumption) only [hms.t, m_r50 hms, m_t50 hms, m_l50 hms, pk, g, Bool.false_eq_true, s258_82, gT_wI, gR_wI, gL_wI, gS_wI, gU_wI, gI_wI, gJ_wI, gI_wJ, gJ_wJ, gR_wJ, gT_wJ, gL_wJ, gS_wJ, gU_wJ, gI_wR, gJ_wR, gR_wR, gT_wR, gL_wR, gS_wR, gU_wR, wI_wI, wJ_wJ, wR_wR, j_s, j_add, j_addL, j_addR, j_mulL, j_mulR, j_cl, j_clL, j_neg, j_negL, j_nn, j_lt, j_le, j_eq, j_ltL, j_ltR, j_leL, j_leR, j_eqL, j_eqR, j_m1, j_m1L, j_m1R, j_eqLL, j_ltLL, j_leLL, n_le0, n_le1, n_lt0, n_lt1, gc_v, gc_n, ↓reduceIte, and_true, true_and, and_self, or_self, or_false, false_or, not_false_eq_true, not_true_eq_false, false_and, and_false, Nat.reduceAdd, Nat.reduceEqDiff, Nat.reduceLeDiff, Nat.reduceLT]
theorem m258a {D : gdD} {v v2 : Int32} (hv : v < 0 ∨ Int32.ofNat (eN (dE D)) ≤ v) : MNo 258 [.int v, .int v2] D 24 1 (.int 0) := by
  intro d h hd hi hD
  obtain ⟨d, rfl⟩ : ∃ e, d = e + 1 := ⟨d - 1, by omega⟩
  obtain ⟨hz, ez, hiz, z0, qz⟩ := hi.z
  have hm := hi.1
  have hmz := hiz.1
  have e := sp239n hiz z0 (d := d) (by omega) hv (c := 1) (by decide)
  rw [r258, s258_0]
  simp only [hm.t, ez, ↓reduceIte]
  refine Eq.trans (congrArg (gc gd_P0 d 258 _ _ _ _) e) ?_
  rw [gc_v, s258_11]
  subst ez
  rw [mthr_z]
  rw [if_pos rfl, s258_29]
theorem m258b {D : gdD} {p : Nat} (hp : p < eN (dE D)) {v : Int32} (hv : v < 0 ∨ 1 < v) : MNo 258 [.int (Int32.ofNat p), .int v] D 25 2 (.int 0) := by
  intro d h hd hi hD
  obtain ⟨d, rfl⟩ : ∃ e, d = e + 1 := ⟨d - 1, by omega⟩
  obtain ⟨hz, ez, hiz, z0, qz⟩ := hi.z
  have hm := hi.1
  have hmz := hiz.1
  have e237 := sp239 hiz z0 (d := d) (by omega) hp 1
  have e183 := sp183n hmz z0 (d := d) (by omega) (c := 2) (by decide) 25 (by omega) (by omega)
  have c0 : (if v < 0 then (0 : Int32) else if 1 < v then 0 else 1) = 0 := by
    rcases hv with h1 | h1
    · rw [if_pos h1]
    · by_cases h2 : v < 0
      · rw [if_pos h2]
      · rw [if_neg h2, if_pos h1]
  rw [r258, s258_0]
  simp only [hm.t, ez, e237, gc_v, s258_11, i10, sp233 (d := d) (by omega), c0, s258_21, hmz.t, ↓reduceIte]
  refine Eq.trans (congrArg (gc gd_P0 d 258 _ _ _ _) e183) ?_
  rw [gc_v, s258_26]
  subst ez
  rw [mthr_z]
  rw [if_pos rfl, s258_29]
theorem m260 {D : gdD} {p w : Nat} (hp : p < eN (dE D)) (hw : w ≤ 1) : MOk 260 [.int (Int32.ofNat p), .int (Int32.ofNat w)] D (.int (vLook D p w)) := by
  intro d h hd hi hD
  obtain ⟨d, rfl⟩ : ∃ e, d = e + 1 := ⟨d - 1, by omega⟩
  obtain ⟨hz, ez, hiz, z0, tz⟩ := TM.z hi
  have hm := hi.1
  have hmz := hiz.1
  obtain ⟨m, hm4, hr⟩ := hD.2.1 (dW D) (Nat.le_refl _)
  have hE := hD.1
  have e183 := sp183 hmz z0 (d := d) (by omega) 2 1
  have e1 := sp239 hiz z0 (d := d) (by omega) hp 1
  have hN7 : eN (dE D) ≤ 7 := hi.2.1.2
  have t0 := tz _ hiz.mc0
  have n0 : ¬ 1 < w := by omega
  obtain ⟨s0, e259, ts0, ps0⟩ := sp259 hi hD t0 (d := d) (by omega) hp
  have W : ∀ (s : gd_H) (i : Nat) (b l : Int32), i < 12 → (∃ r, TM h s D (-1) r) → PF D p 100 s → ∃ s', go gd_P0 d 260 68 [.ref 1231, .null, .int (Int32.ofNat w), .int b, .int l, .int (Int32.ofNat (i + 1)), .int 0, .null, .null] [] s = go gd_P0 d 260 96 [.ref 1231, .null, .int (Int32.ofNat w), .int b, .int l, .int (Int32.ofNat (i + 1)), .int (pWor D p (i + 1)), .int (Int32.ofNat 100), .null] [] s' ∧ (∃ r, TM h s' D (-1) r) ∧ PF D p 100 s' := by
    intro s i b l hi9 ts ps
    have L0 := lp_e (fun v s => go gd_P0 d 260 68 [.ref 1231, .null, .int (Int32.ofNat w), .int b, .int l, .int (Int32.ofNat (i + 1)), .int (Int32.ofNat v), .null, .null] [] s) (fun v s => (∃ r, TM h s D (-1) r) ∧ PF D p 100 s ∧ ∀ u, u < v → gI s 1261 u = 0) 1000 s ⟨ts, ps, fun u hu => absurd hu (Nat.not_lt_zero u)⟩ ?_
    · obtain ⟨s1, e2, t1, p1, z1⟩ := L0
      have L := lp_e (fun k s => go gd_P0 d 260 96 [.ref 1231, .null, .int (Int32.ofNat w), .int b, .int l, .int (Int32.ofNat (i + 1)), .int (pCnt D p (i + 1) k).2, .int (Int32.ofNat k), .null] [] s) (fun k s => (∃ r, TM h s D (-1) r) ∧ PF D p 100 s ∧ ∀ u, u < 1000 → gI s 1261 u = (pCnt D p (i + 1) k).1 u) 100 s1 ⟨t1, p1, z1⟩ ?_
      · obtain ⟨s2, e3, t2, p2, -⟩ := L
        refine ⟨s2, e2.trans ?_, t2, p2⟩
        try dsimp only
        rw [s260_68, if_pos (by decide)]
        exact e3
      · intro k hk s3 ⟨⟨r3, t3⟩, p3, z3⟩
        try dsimp only
        obtain ⟨hm3, -, -⟩ := t3.x hi
        obtain ⟨pk1, pk2⟩ := p3 k hk
        have pk := pk2 (i + 1) (by omega) (by omega)
        obtain ⟨v, v1, v2⟩ := gr_n hD (p := p) (k := k) (m := i + 1) (by omega) hk (by omega)
        have cv := z3 v (by omega)
        by_cases g : gOk D p k = true
        · have ec : pCnt D p (i + 1) (k + 1) = (rw1 (pCnt D p (i + 1) k).1 v ((pCnt D p (i + 1) k).1 v + 1), jmax (pCnt D p (i + 1) k).2 ((pCnt D p (i + 1) k).1 v + 1)) := by
            show (if gOk D p k = true then _ else _) = _
            rw [if_pos g, v2, j_cl (by omega)]
            rfl
          refine ⟨wI s3 (up1 (gI s3) 1261 v ((pCnt D p (i + 1) k).1 v + 1)), ?_, ⟨_, t3.us hi (by omega) (by omega) _ _⟩, fun q hq => ?_, fun u hu => ?_⟩
          · rw [ec, s260_96]
            by_cases c : (pCnt D p (i + 1) k).1 v + 1 ≤ (pCnt D p (i + 1) k).2
            · have jm := jmax_ge c
              simp (disch := first | omega | assumption) only [hm3.t, m_r44 hm3, m_t44 hm3, m_l44 hm3, m_r49 hm3, m_t49 hm3, m_l49 hm3, m_r50 hm3, m_t50 hm3, m_l50 hm3, m_r51 hm3, m_t51 hm3, m_l51 hm3, pk1, pk, v2, cv, g, c, jm, up1_eq, i10, s260_166, s260_168, gT_wI, gR_wI, gL_wI, gS_wI, gU_wI, gI_wI, gJ_wI, gI_wJ, gJ_wJ, gR_wJ, gT_wJ, gL_wJ, gS_wJ, gU_wJ, gI_wR, gJ_wR, gR_wR, gT_wR, gL_wR, gS_wR, gU_wR, wI_wI, wJ_wJ, wR_wR, j_s, j_add, j_addL, j_addR, j_mulL, j_mulR, j_cl, j_clL, j_neg, j_negL, j_nn, j_lt, j_le, j_eq, j_ltL, j_ltR, j_leL, j_leR, j_eqL, j_eqR, j_m1, j_m1L, j_m1R, j_eqLL, j_ltLL, j_leLL, n_le0, n_le1, n_lt0, n_lt1, gc_v, gc_n, ↓reduceIte, and_true, true_and, and_self, or_self, or_false, false_or, not_false_eq_true, not_true_eq_false, false_and, and_false, Nat.reduceAdd, Nat.reduceEqDiff, Nat.reduceLeDiff, Nat.reduceLT]
            · have jm := jmax_lt c
              simp (disch := first | omega | assumption) only [hm3.t, m_r44 hm3, m_t44 hm3, m_l44 hm3, m_r49 hm3, m_t49 hm3, m_l49 hm3, m_r50 hm3, m_t50 hm3, m_l50 hm3, m_r51 hm3, m_t51 hm3, m_l51 hm3, pk1, pk, v2, cv, g, c, jm, up1_eq, i10, s260_166, s260_168, gT_wI, gR_wI, gL_wI, gS_wI, gU_wI, gI_wI, gJ_wI, gI_wJ, gJ_wJ, gR_wJ, gT_wJ, gL_wJ, gS_wJ, gU_wJ, gI_wR, gJ_wR, gR_wR, gT_wR, gL_wR, gS_wR, gU_wR, wI_wI, wJ_wJ, wR_wR, j_s, j_add, j_addL, j_addR, j_mulL, j_mulR, j_cl, j_clL, j_neg, j_negL, j_nn, j_lt, j_le, j_eq, j_ltL, j_ltR, j_leL, j_leR, j_eqL, j_eqR, j_m1, j_m1L, j_m1R, j_eqLL, j_ltLL, j_leLL, n_le0, n_le1, n_lt0, n_lt1, gc_v, gc_n, ↓reduceIte, and_true, true_and, and_self, or_self, or_false, false_or, not_false_eq_true, not_true_eq_false, false_and, and_false, Nat.reduceAdd, Nat.reduceEqDiff, Nat.reduceLeDiff, Nat.reduceLT]
          · rw [gI_wI, up1_nc _ _ _ (by omega), up1_nc _ _ _ (by omega)]
            exact p3 q hq
          · rw [ec, gI_wI]
            by_cases z : u = v
            · subst z; rw [up1_eq]; exact (rw1_eq _ _ _).symm
            · rw [up1_nj _ _ z, z3 u hu]
              exact (rw1_ne _ _ z).symm
        · have ec : pCnt D p (i + 1) (k + 1) = pCnt D p (i + 1) k := by
            show (if gOk D p k = true then _ else _) = _
            rw [if_neg g]
            rfl
          refine ⟨s3, ?_, ⟨_, t3⟩, p3, fun u hu => by rw [ec]; exact z3 u hu⟩
          rw [ec, s260_96]
          simp (disch := first | omega | assumption) only [hm3.t, m_r44 hm3, m_t44 hm3, m_l44 hm3, m_r49 hm3, m_t49 hm3, m_l49 hm3, m_r50 hm3, m_t50 hm3, m_l50 hm3, m_r51 hm3, m_t51 hm3, m_l51 hm3, pk1, g, Bool.false_eq_true, s260_168, gT_wI, gR_wI, gL_wI, gS_wI, gU_wI, gI_wI, gJ_wI, gI_wJ, gJ_wJ, gR_wJ, gT_wJ, gL_wJ, gS_wJ, gU_wJ, gI_wR, gJ_wR, gR_wR, gT_wR, gL_wR, gS_wR, gU_wR, wI_wI, wJ_wJ, wR_wR, j_s, j_add, j_addL, j_addR, j_mulL, j_mulR, j_cl, j_clL, j_neg, j_negL, j_nn, j_lt, j_le, j_eq, j_ltL, j_ltR, j_leL, j_leR, j_eqL, j_eqR, j_m1, j_m1L, j_m1R, j_eqLL, j_ltLL, j_leLL, n_le0, n_le1, n_lt0, n_lt1, gc_v, gc_n, ↓reduceIte, and_true, true_and, and_self, or_self, or_false, false_or, not_false_eq_true, not_true_eq_false, false_and, and_false, Nat.reduceAdd, Nat.reduceEqDiff, Nat.reduceLeDiff, Nat.reduceLT]
    · intro v hv s3 ⟨⟨r3, t3⟩, p3, z3⟩
      try dsimp only
      obtain ⟨hm3, -, -⟩ := t3.x hi
      refine ⟨wI s3 (up1 (gI s3) 1261 v 0), ?_, ⟨_, t3.us hi (by omega) (by omega) _ _⟩, fun q hq => ?_, fun u hu => ?_⟩
      · rw [s260_68]
        simp (disch := first | omega | assumption) only [hm3.t, m_r44 hm3, m_t44 hm3, m_l44 hm3, m_r49 hm3, m_t49 hm3, m_l49 hm3, m_r50 hm3, m_t50 hm3, m_l50 hm3, m_r51 hm3, m_t51 hm3, m_l51 hm3, gT_wI, gR_wI, gL_wI, gS_wI, gU_wI, gI_wI, gJ_wI, gI_wJ, gJ_wJ, gR_wJ, gT_wJ, gL_wJ, gS_wJ, gU_wJ, gI_wR, gJ_wR, gR_wR, gT_wR, gL_wR, gS_wR, gU_wR, wI_wI, wJ_wJ, wR_wR, j_s, j_add, j_addL, j_addR, j_mulL, j_mulR, j_cl, j_clL, j_neg, j_negL, j_nn, j_lt, j_le, j_eq, j_ltL, j_ltR, j_leL, j_leR, j_eqL, j_eqR, j_m1, j_m1L, j_m1R, j_eqLL, j_ltLL, j_leLL, n_le0, n_le1, n_lt0, n_lt1, gc_v, gc_n, ↓reduceIte, and_true, true_and, and_self, or_self, or_false, false_or, not_false_eq_true, not_true_eq_false, false_and, and_false, Nat.reduceAdd, Nat.reduceEqDiff, Nat.reduceLeDiff, Nat.reduceLT]
      · rw [gI_wI, up1_nc _ _ _ (by omega), up1_nc _ _ _ (by omega)]
        exact p3 q hq
      · by_cases z : u = v
        · subst z; exact up1_eq _ _ _ _
        · rw [gI_wI, up1_nj _ _ z]; exact z3 u (by omega)
  have L := lp_e (fun i s => go gd_P0 d 260 44 [.ref 1231, .null, .int (Int32.ofNat w), .int (pLook D p i).1, .int (pLook D p i).2, .int (Int32.ofNat (i + 1)), .null, .null, .null] [] s) (fun i s => (∃ r, TM h s D (-1) r) ∧ PF D p 100 s) 12 s0 ⟨ts0, ps0⟩ ?_
  · obtain ⟨s2, e2, ⟨r2, t2⟩, -⟩ := L
    have q2 : MZ h s2 ∧ gI s2 1231 0 = 0 := by
      obtain ⟨I', rfl, a1, a2, a3, a4⟩ := t2
      exact TM.mz ⟨I', rfl, a1, a2, a3, a4⟩ hi
    refine ⟨s2, ?_, q2.1, q2.2⟩
    rw [r260, s260_0]
    simp only [hm.t, ez, ↓reduceIte]
    simp (disch := first | omega | assumption) only [hmz.t, e1, s260_11, i10, sp233 (d := d) (by omega), n0, s260_21, e183, s260_26, e259, s260_36, gT_wI, gR_wI, gL_wI, gS_wI, gU_wI, gI_wI, gJ_wI, gI_wJ, gJ_wJ, gR_wJ, gT_wJ, gL_wJ, gS_wJ, gU_wJ, gI_wR, gJ_wR, gR_wR, gT_wR, gL_wR, gS_wR, gU_wR, wI_wI, wJ_wJ, wR_wR, j_s, j_add, j_addL, j_addR, j_mulL, j_mulR, j_cl, j_clL, j_neg, j_negL, j_nn, j_lt, j_le, j_eq, j_ltL, j_ltR, j_leL, j_leR, j_eqL, j_eqR, j_m1, j_m1L, j_m1R, j_eqLL, j_ltLL, j_leLL, n_le0, n_le1, n_lt0, n_lt1, gc_v, gc_n, ↓reduceIte, and_true, true_and, and_self, or_self, or_false, false_or, not_false_eq_true, not_true_eq_false, false_and, and_false, Nat.reduceAdd, Nat.reduceEqDiff, Nat.reduceLeDiff, Nat.reduceLT]
    refine Eq.trans e2 ?_
    try dsimp only
    rw [s260_44]
    unfold vLook
    rcases c02 hw with rfl | rfl
    all_goals simp (disch := first | omega | assumption) only [s260_212, gT_wI, gR_wI, gL_wI, gS_wI, gU_wI, gI_wI, gJ_wI, gI_wJ, gJ_wJ, gR_wJ, gT_wJ, gL_wJ, gS_wJ, gU_wJ, gI_wR, gJ_wR, gR_wR, gT_wR, gL_wR, gS_wR, gU_wR, wI_wI, wJ_wJ, wR_wR, j_s, j_add, j_addL, j_addR, j_mulL, j_mulR, j_cl, j_clL, j_neg, j_negL, j_nn, j_lt, j_le, j_eq, j_ltL, j_ltR, j_leL, j_leR, j_eqL, j_eqR, j_m1, j_m1L, j_m1R, j_eqLL, j_ltLL, j_leLL, n_le0, n_le1, n_lt0, n_lt1, gc_v, gc_n, ↓reduceIte, and_true, true_and, and_self, or_self, or_false, false_or, not_false_eq_true, not_true_eq_false, false_and, and_false, Nat.reduceAdd, Nat.reduceEqDiff, Nat.reduceLeDiff, Nat.reduceLT]
  · intro k hk s ⟨⟨r1, ts⟩, ps⟩
    try dsimp only
    obtain ⟨hms, -, -⟩ := ts.x hi
    have bk := ts.bk hi (k + 1) (by omega)
    by_cases t : dBk D (k + 1) = -1
    · obtain ⟨s', eW, t', p'⟩ := W s k (pLook D p k).1 (pLook D p k).2 hk ⟨_, ts⟩ ps
      refine ⟨s', ?_, t', p'⟩
      have ec : pLook D p (k + 1) = if (pLook D p k).1 = -1 then (Int32.ofNat (k + 1), pWor D p (k + 1)) else if pWor D p (k + 1) < (pLook D p k).2 then (Int32.ofNat (k + 1), pWor D p (k + 1)) else pLook D p k := by
        show (if dBk D (k + 1) = -1 then _ else _) = _
        rw [if_pos t]
        rfl
      rw [ec, s260_44]
      simp (disch := first | omega | assumption) only [hms.t, m_r44 hms, m_t44 hms, m_l44 hms, m_r49 hms, m_t49 hms, m_l49 hms, m_r50 hms, m_t50 hms, m_l50 hms, m_r51 hms, m_t51 hms, m_l51 hms, bk, t, gT_wI, gR_wI, gL_wI, gS_wI, gU_wI, gI_wI, gJ_wI, gI_wJ, gJ_wJ, gR_wJ, gT_wJ, gL_wJ, gS_wJ, gU_wJ, gI_wR, gJ_wR, gR_wR, gT_wR, gL_wR, gS_wR, gU_wR, wI_wI, wJ_wJ, wR_wR, j_s, j_add, j_addL, j_addR, j_mulL, j_mulR, j_cl, j_clL, j_neg, j_negL, j_nn, j_lt, j_le, j_eq, j_ltL, j_ltR, j_leL, j_leR, j_eqL, j_eqR, j_m1, j_m1L, j_m1R, j_eqLL, j_ltLL, j_leLL, n_le0, n_le1, n_lt0, n_lt1, gc_v, gc_n, ↓reduceIte, and_true, true_and, and_self, or_self, or_false, false_or, not_false_eq_true, not_true_eq_false, false_and, and_false, Nat.reduceAdd, Nat.reduceEqDiff, Nat.reduceLeDiff, Nat.reduceLT]
      refine Eq.trans eW ?_
      rw [s260_96, if_pos (by decide)]
      by_cases c1 : (pLook D p k).1 = -1
      · simp (disch := first | omega | assumption) only [c1, s260_189, s260_196, gT_wI, gR_wI, gL_wI, gS_wI, gU_wI, gI_wI, gJ_wI, gI_wJ, gJ_wJ, gR_wJ, gT_wJ, gL_wJ, gS_wJ, gU_wJ, gI_wR, gJ_wR, gR_wR, gT_wR, gL_wR, gS_wR, gU_wR, wI_wI, wJ_wJ, wR_wR, j_s, j_add, j_addL, j_addR, j_mulL, j_mulR, j_cl, j_clL, j_neg, j_negL, j_nn, j_lt, j_le, j_eq, j_ltL, j_ltR, j_leL, j_leR, j_eqL, j_eqR, j_m1, j_m1L, j_m1R, j_eqLL, j_ltLL, j_leLL, n_le0, n_le1, n_lt0, n_lt1, gc_v, gc_n, ↓reduceIte, and_true, true_and, and_self, or_self, or_false, false_or, not_false_eq_true, not_true_eq_false, false_and, and_false, Nat.reduceAdd, Nat.reduceEqDiff, Nat.reduceLeDiff, Nat.reduceLT]
      · by_cases c2 : pWor D p (k + 1) < (pLook D p k).2
        · simp (disch := first | omega | assumption) only [c1, c2, s260_189, s260_196, gT_wI, gR_wI, gL_wI, gS_wI, gU_wI, gI_wI, gJ_wI, gI_wJ, gJ_wJ, gR_wJ, gT_wJ, gL_wJ, gS_wJ, gU_wJ, gI_wR, gJ_wR, gR_wR, gT_wR, gL_wR, gS_wR, gU_wR, wI_wI, wJ_wJ, wR_wR, j_s, j_add, j_addL, j_addR, j_mulL, j_mulR, j_cl, j_clL, j_neg, j_negL, j_nn, j_lt, j_le, j_eq, j_ltL, j_ltR, j_leL, j_leR, j_eqL, j_eqR, j_m1, j_m1L, j_m1R, j_eqLL, j_ltLL, j_leLL, n_le0, n_le1, n_lt0, n_lt1, gc_v, gc_n, ↓reduceIte, and_true, true_and, and_self, or_self, or_false, false_or, not_false_eq_true, not_true_eq_false, false_and, and_false, Nat.reduceAdd, Nat.reduceEqDiff, Nat.reduceLeDiff, Nat.reduceLT]
        · simp (disch := first | omega | assumption) only [c1, c2, s260_189, s260_196, gT_wI, gR_wI, gL_wI, gS_wI, gU_wI, gI_wI, gJ_wI, gI_wJ, gJ_wJ, gR_wJ, gT_wJ, gL_wJ, gS_wJ, gU_wJ, gI_wR, gJ_wR, gR_wR, gT_wR, gL_wR, gS_wR, gU_wR, wI_wI, wJ_wJ, wR_wR, j_s, j_add, j_addL, j_addR, j_mulL, j_mulR, j_cl, j_clL, j_neg, j_negL, j_nn, j_lt, j_le, j_eq, j_ltL, j_ltR, j_leL, j_leR, j_eqL, j_eqR, j_m1, j_m1L, j_m1R, j_eqLL, j_ltLL, j_leLL, n_le0, n_le1, n_lt0, n_lt1, gc_v, gc_n, ↓reduceIte, and_true, true_and, and_self, or_self, or_false, false_or, not_false_eq_true, not_true_eq_false, false_and, and_false, Nat.reduceAdd, Nat.reduceEqDiff, Nat.reduceLeDiff, Nat.reduceLT]
    · refine ⟨s, ?_, ⟨_, ts⟩, ps⟩
      have ec : pLook D p (k + 1) = pLook D p k := by
        show (if dBk D (k + 1) = -1 then _ else _) = _
        rw [if_neg t]
        rfl
      rw [ec, s260_44]
      simp (disch := first | omega | assumption) only [hms.t, m_r44 hms, m_t44 hms, m_l44 hms, m_r49 hms, m_t49 hms, m_l49 hms, m_r50 hms, m_t50 hms, m_l50 hms, m_r51 hms, m_t51 hms, m_l51 hms, bk, t, s260_196, gT_wI, gR_wI, gL_wI, gS_wI, gU_wI, gI_wI, gJ_wI, gI_wJ, gJ_wJ, gR_wJ, gT_wJ, gL_wJ, gS_wJ, gU_wJ, gI_wR, gJ_wR, gR_wR, gT_wR, gL_wR, gS_wR, gU_wR, wI_wI, wJ_wJ, wR_wR, j_s, j_add, j_addL, j_addR, j_mulL, j_mulR, j_cl, j_clL, j_neg, j_negL, j_nn, j_lt, j_le, j_eq, j_ltL, j_ltR, j_leL, j_leR, j_eqL, j_eqR, j_m1, j_m1L, j_m1R, j_eqLL, j_ltLL, j_leLL, n_le0, n_le1, n_lt0, n_lt1, gc_v, gc_n, ↓reduceIte, and_true, true_and, and_self, or_self, or_false, false_or, not_false_eq_true, not_true_eq_false, false_and, and_false, Nat.reduceAdd, Nat.reduceEqDiff, Nat.reduceLeDiff, Nat.reduceLT]
theorem m260a {D : gdD} {v v2 : Int32} (hv : v < 0 ∨ Int32.ofNat (eN (dE D)) ≤ v) : MNo 260 [.int v, .int v2] D 24 1 (.int 0) := by
  intro d h hd hi hD
  obtain ⟨d, rfl⟩ : ∃ e, d = e + 1 := ⟨d - 1, by omega⟩
  obtain ⟨hz, ez, hiz, z0, qz⟩ := hi.z
  have hm := hi.1
  have hmz := hiz.1
  have e := sp239n hiz z0 (d := d) (by omega) hv (c := 1) (by decide)
  rw [r260, s260_0]
  simp only [hm.t, ez, ↓reduceIte]
  refine Eq.trans (congrArg (gc gd_P0 d 260 _ _ _ _) e) ?_
  rw [gc_v, s260_11]
  subst ez
  rw [mthr_z]
  rw [if_pos rfl, s260_29]
theorem m260b {D : gdD} {p : Nat} (hp : p < eN (dE D)) {v : Int32} (hv : v < 0 ∨ 1 < v) : MNo 260 [.int (Int32.ofNat p), .int v] D 25 2 (.int 0) := by
  intro d h hd hi hD
  obtain ⟨d, rfl⟩ : ∃ e, d = e + 1 := ⟨d - 1, by omega⟩
  obtain ⟨hz, ez, hiz, z0, qz⟩ := hi.z
  have hm := hi.1
  have hmz := hiz.1
  have e237 := sp239 hiz z0 (d := d) (by omega) hp 1
  have e183 := sp183n hmz z0 (d := d) (by omega) (c := 2) (by decide) 25 (by omega) (by omega)
  have c0 : (if v < 0 then (0 : Int32) else if 1 < v then 0 else 1) = 0 := by
    rcases hv with h1 | h1
    · rw [if_pos h1]
    · by_cases h2 : v < 0
      · rw [if_pos h2]
      · rw [if_neg h2, if_pos h1]
  rw [r260, s260_0]
  simp only [hm.t, ez, e237, gc_v, s260_11, i10, sp233 (d := d) (by omega), c0, s260_21, hmz.t, ↓reduceIte]
  refine Eq.trans (congrArg (gc gd_P0 d 260 _ _ _ _) e183) ?_
  rw [gc_v, s260_26]
  subst ez
  rw [mthr_z]
  rw [if_pos rfl, s260_29]

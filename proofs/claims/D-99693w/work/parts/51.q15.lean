/-! ===== fits, look: the model's side ===== -/
set_option maxRecDepth 100000
theorem MC.wal {I : Nat → Nat → Int32} {E : gdE} {al : Int32} {r : gdR} (hx : MC I E al r) (v : Int32) : MC (up1 I 1231 42 v) E v r := by
  obtain ⟨h0, ⟨iB, iN, iA⟩, iG, iK, iR, cS⟩ := hx
  refine ⟨h0, ⟨?_, ?_, up1_eq _ _ _ _⟩, fun k hk => ?_, fun p hp => ?_, fun m hm => ?_, fun j hj => ?_⟩
  · rw [up1_nj _ _ (by omega)]; exact iB
  · rw [up1_nj _ _ (by omega)]; exact iN
  · rw [up1_nc _ _ _ (by omega)]; exact iG k hk
  · rw [up1_nc _ _ _ (by omega)]; exact iK p hp
  · rw [up1_nc _ _ _ (by omega)]; exact iR m hm
  · rw [up1_nc _ _ _ (by omega)]; exact cS j hj
theorem TM.wal {h0 h : gd_H} {D : gdD} {al : Int32} {r : gdR} (t : TM h0 h D al r) (hi : MI h0 D) (v : Int32) : TM h0 (wI h (up1 (gI h) 1231 42 v)) D v r :=
  t.i ((t.x hi).2.1.wal v) (fun b hb => up1_nc _ _ _ (by unfold mper at hb; omega)) (fun k hk => up1_nj _ _ (fun z => by
    subst z
    rcases hk with hk | hk
    · revert hk; decide
    · omega))
/-- a scratch cell of the model -/
theorem TM.us {h0 h : gd_H} {D : gdD} {al : Int32} {r : gdR} (t : TM h0 h D al r) (hi : MI h0 D) {b : Nat} (h1 : 1256 ≤ b) (h2 : b ≤ 1262) (j : Nat) (v : Int32) : TM h0 (wI h (up1 (gI h) b j v)) D al r :=
  t.i ((t.x hi).2.1.fr (up1_nc _ _ _ (by omega)) (up1_nc _ _ _ (by omega)) (up1_nc _ _ _ (by omega)) (up1_nc _ _ _ (by omega)) (up1_nc _ _ _ (by omega))) (fun x hb => up1_nc _ _ _ (by unfold mper at hb; omega)) (fun k hk => by rw [up1_nc _ _ _ (by omega)])
theorem TM.ws {h0 h : gd_H} {D : gdD} {al : Int32} {r : gdR} (t : TM h0 h D al r) (hi : MI h0 D) {j : Nat} (hj : j < 50) (v : Int32) : TM h0 (wI h (up1 (gI h) 1251 j v)) D al (rw1 r j v) :=
  t.i ((t.x hi).2.1.w hj v) (fun b hb => up1_nc _ _ _ (by unfold mper at hb; omega)) (fun k _ => by rw [up1_nc _ _ _ (by omega)])
theorem tm219b {h0 h : gd_H} {D : gdD} {al : Int32} {r : gdR} (hi : MI h0 D) (t : TM h0 h D al r) (hE : EI (dE D)) {m : Nat} (hr : RI (dE D) m r) (hm : m < 1000000) {d : Nat} (hd : 10 ≤ d) : ∃ h', run gd_P0 d 219 [.ref 1231] h = some (.inl none, h') ∧ TM h0 h' D al (pMo (dE D) al r) ∧ ∀ b, 1253 < b → gI h' b = gI h b := by
  obtain ⟨hms, hx, hl⟩ := t.x hi
  obtain ⟨I', e1, e2, e3⟩ := sp219 (d := d) (by omega) hms hx hr hm hE hl
  exact ⟨_, e1, t.i e2 (fun b hb => e3 b (by unfold mper at hb; omega) (by unfold mper at hb; omega) (by unfold mper at hb; omega) (by unfold mper at hb; omega)) (fun j _ => by rw [e3 _ (by omega) (by omega) (by omega) (by omega)]), fun b hb => e3 b (by omega) (by omega) (by omega) (by omega)⟩
theorem sp211b {h h2 : gd_H} {D : gdD} {al : Int32} {r : gdR} (hi : MI h D) (t : TM h h2 D al r) {d : Nat} (hd : 2 ≤ d) : ∃ h', run gd_P0 d 211 [.ref 1231] h2 = some (.inl none, h') ∧ TM h h' D al (dNow D) ∧ ∀ b, 1253 < b → gI h' b = gI h2 b := by
  obtain ⟨h', e1, e2⟩ := sp211t hi t hd
  have e := sp211 (t.x hi).1 hd
  have e3 := e.symm.trans e1
  injection e3 with e4
  injection e4 with _ e5
  refine ⟨h', e1, e2, fun b hb => ?_⟩
  rw [← e5, gI_wI]
  exact tk_ne (by omega)
/-- what the pairs below n left -/
def PF (D : gdD) (p n : Nat) (h : gd_H) : Prop := ∀ k, k < n → gI h 1260 k = (if gOk D p k = true then 1 else 0) ∧ ∀ m, 1 ≤ m → m ≤ 12 → gI h 1259 (13 * k + m) = gr D p k m
theorem and11 : (1 : Int32) &&& 1 = 1 := by decide
theorem and01 : (0 : Int32) &&& 1 = 0 := by decide
theorem TM.bk {h0 h : gd_H} {D : gdD} {al : Int32} {r : gdR} (t : TM h0 h D al r) (hi : MI h0 D) : ∀ m, m < 13 → gI h 1255 m = dBk D m := by
  obtain ⟨I', rfl, h1, -⟩ := t
  obtain ⟨-, -, -, -, -, -, -, -, -, -, -, -, ⟨-, -, b⟩, -⟩ := hi
  intro m hm
  rw [gI_wI, h1 1255 (by unfold mper; omega)]
  exact b m hm
theorem TM.nw {h0 h : gd_H} {D : gdD} {al : Int32} {r : gdR} (t : TM h0 h D al r) (hi : MI h0 D) : ∀ j, j < 50 → gI h 1250 j = dNow D j := by
  obtain ⟨I', rfl, h1, -⟩ := t
  obtain ⟨-, -, -, -, -, -, i7, -⟩ := hi
  intro m hm
  rw [gI_wI, h1 1250 (by unfold mper; omega)]
  exact i7 m hm
theorem sp259 {h0 h : gd_H} {D : gdD} {r0 : gdR} (hi : MI h0 D) (hD : DI D) (t0 : TM h0 h D (-1) r0) {d : Nat} (hd : 20 ≤ d) {p : Nat} (hp : p < eN (dE D)) : ∃ h', run gd_P0 d 259 [.ref 1231, .int (Int32.ofNat p)] h = some (.inl none, h') ∧ (∃ r, TM h0 h' D (-1) r) ∧ PF D p 100 h' := by
  obtain ⟨d, rfl⟩ : ∃ e, d = e + 1 := ⟨d - 1, by omega⟩
  obtain ⟨m0, hm0, hr⟩ := hD.2.1 (dW D) (Nat.le_refl _)
  have hE := hD.1
  have hN := hr.1.2
  rw [r259, s259_0]
  have L := lp_e (fun i s => go gd_P0 d 259 2 [.ref 1231, .int (Int32.ofNat p), .int (Int32.ofNat i), .null] [] s) (fun i s => (∃ r, TM h0 s D (-1) r) ∧ PF D p i s) 100 h ⟨⟨_, t0⟩, fun k hk => absurd hk (Nat.not_lt_zero k)⟩ ?_
  · obtain ⟨h2, e2, t2, p2⟩ := L
    refine ⟨h2, e2.trans ?_, t2, p2⟩
    try dsimp only
    rw [s259_2, if_pos (by decide)]
  · intro i hi9 s ⟨⟨r1, ts⟩, ps⟩
    try dsimp only
    obtain ⟨hms, -, -⟩ := ts.x hi
    obtain ⟨s1, e211, t1, f1⟩ := sp211b hi ts (d := d) (by omega)
    obtain ⟨hm1, -, -⟩ := t1.x hi
    have e10 : i - i / 10 * 10 = i % 10 := by omega
    have al : AI (Int32.ofNat (i % 10)) := Or.inr ⟨i % 10, by omega, rfl⟩
    have hr1 : RI (dE D) m0 (rw1 (dNow D) (7 + p) (Int32.ofNat (i / 10))) := hr.rw (Or.inl (by omega))
    have t2 : TM h0 (wI s1 (up1 (up1 (up1 (gI s1) 1251 (7 + p) (Int32.ofNat (i / 10))) 1231 42 (Int32.ofNat (i % 10))) 1260 i 1)) D (Int32.ofNat (i % 10)) (rw1 (dNow D) (7 + p) (Int32.ofNat (i / 10))) := ((t1.ws hi (j := 7 + p) (by omega) (Int32.ofNat (i / 10))).wal hi (Int32.ofNat (i % 10))).us hi (b := 1260) (by omega) (by omega) i 1
    have L2 := lp_e (fun j s => go gd_P0 d 259 42 [.ref 1231, .int (Int32.ofNat p), .int (Int32.ofNat i), .int (Int32.ofNat (j + 1))] [] s) (fun j s => TM h0 s D (Int32.ofNat (i % 10)) (mN (dE D) (Int32.ofNat (i % 10)) j (rw1 (dNow D) (7 + p) (Int32.ofNat (i / 10)))) ∧ PF D p i s ∧ gI s 1260 i = (if gOkN D p i j = true then 1 else 0) ∧ ∀ m, 1 ≤ m → m ≤ j → gI s 1259 (13 * i + m) = gr D p i m) 12 _ ⟨t2, fun k hk => ?_, ?_, fun m a b => by omega⟩ ?_
    · obtain ⟨s3, e3, t3, p3, b3, g3⟩ := L2
      obtain ⟨hm3, -, -⟩ := t3.x hi
      refine ⟨wI s3 (up1 (gI s3) 1231 42 (-1)), ?_, ⟨_, t3.wal hi (-1)⟩, fun k hk => ?_⟩
      · rw [s259_2]
        simp (disch := first | omega | assumption) only [hms.t, e211, s259_12, hm1.t, m_r39 hm1, m_t39 hm1, m_l39 hm1, m_r44 hm1, m_t44 hm1, m_l44 hm1, m_r49 hm1, m_t49 hm1, m_l49 hm1, m_r50 hm1, m_t50 hm1, m_l50 hm1, j_divR, j_mulR, j_sub, e10, and11, gT_wI, gR_wI, gL_wI, gS_wI, gU_wI, gI_wI, gJ_wI, gI_wJ, gJ_wJ, gR_wJ, gT_wJ, gL_wJ, gS_wJ, gU_wJ, gI_wR, gJ_wR, gR_wR, gT_wR, gL_wR, gS_wR, gU_wR, wI_wI, wJ_wJ, wR_wR, j_s, j_add, j_addL, j_addR, j_mulL, j_mulR, j_cl, j_clL, j_neg, j_negL, j_nn, j_lt, j_le, j_eq, j_ltL, j_ltR, j_leL, j_leR, j_eqL, j_eqR, j_m1, j_m1L, j_m1R, j_eqLL, j_ltLL, j_leLL, n_le0, n_le1, n_lt0, n_lt1, gc_v, gc_n, ↓reduceIte, and_true, true_and, and_self, or_self, or_false, false_or, not_false_eq_true, not_true_eq_false, false_and, and_false, Nat.reduceAdd, Nat.reduceEqDiff, Nat.reduceLeDiff, Nat.reduceLT]
        refine Eq.trans e3 ?_
        try dsimp only
        rw [s259_42]
        simp (disch := first | omega | assumption) only [hm3.t, gT_wI, gR_wI, gL_wI, gS_wI, gU_wI, gI_wI, gJ_wI, gI_wJ, gJ_wJ, gR_wJ, gT_wJ, gL_wJ, gS_wJ, gU_wJ, gI_wR, gJ_wR, gR_wR, gT_wR, gL_wR, gS_wR, gU_wR, wI_wI, wJ_wJ, wR_wR, j_s, j_add, j_addL, j_addR, j_mulL, j_mulR, j_cl, j_clL, j_neg, j_negL, j_nn, j_lt, j_le, j_eq, j_ltL, j_ltR, j_leL, j_leR, j_eqL, j_eqR, j_m1, j_m1L, j_m1R, j_eqLL, j_ltLL, j_leLL, n_le0, n_le1, n_lt0, n_lt1, gc_v, gc_n, ↓reduceIte, and_true, true_and, and_self, or_self, or_false, false_or, not_false_eq_true, not_true_eq_false, false_and, and_false, Nat.reduceAdd, Nat.reduceEqDiff, Nat.reduceLeDiff, Nat.reduceLT]
        exact (s259_2 ..).trans (s259_2 ..).symm
      · rw [gI_wI, up1_nc _ _ _ (by omega), up1_nc _ _ _ (by omega)]
        by_cases z : k = i
        · subst z; exact ⟨b3, g3⟩
        · exact p3 k (by omega)
    · rw [gI_wI, up1_nj _ _ (by omega), up1_nc _ _ _ (by omega), up1_nc _ _ _ (by omega), up1_nc _ _ _ (by omega), up1_nc _ _ _ (by omega), up1_nc _ _ _ (by omega), f1 1260 (by omega), f1 1259 (by omega)]
      exact ps k hk
    · rw [gI_wI, up1_eq]
      rfl
    · intro j hj s3 ⟨t3, p3, b3, g3⟩
      try dsimp only
      obtain ⟨hm3, -, -⟩ := t3.x hi
      obtain ⟨s4, e219, t4, f4⟩ := tm219b hi t3 hE (RI.mN hE al hr1 j (by omega)) (by omega) (d := d) (by omega)
      obtain ⟨hm4, hx4, -⟩ := t4.x hi
      have bk := t4.bk hi (j + 1) (by omega)
      have c0 : gI s4 1251 p = gr D p i (j + 1) := hx4.2.2.2.2.2 p (by omega)
      have b4 : gI s4 1260 i = (if gOkN D p i j = true then 1 else 0) := by rw [f4 _ (by omega)]; exact b3
      have eg : gOkN D p i (j + 1) = (gOkN D p i j && (decide (dBk D (j + 1) = -1) || decide (dBk D (j + 1) = gr D p i (j + 1)))) := rfl
      refine ⟨wI s4 (up1 (up1 (gI s4) 1259 (13 * i + (j + 1)) (gr D p i (j + 1))) 1260 i (if gOkN D p i (j + 1) = true then 1 else 0)), ?_, (t4.us hi (b := 1259) (by omega) (by omega) (13 * i + (j + 1)) (gr D p i (j + 1))).us hi (b := 1260) (by omega) (by omega) i (if gOkN D p i (j + 1) = true then 1 else 0), fun k hk => ?_, ?_, fun m m1 m2 => ?_⟩
      · rw [s259_42]
        simp (disch := first | omega | assumption) only [hm3.t, e219, gT_wI, gR_wI, gL_wI, gS_wI, gU_wI, gI_wI, gJ_wI, gI_wJ, gJ_wJ, gR_wJ, gT_wJ, gL_wJ, gS_wJ, gU_wJ, gI_wR, gJ_wR, gR_wR, gT_wR, gL_wR, gS_wR, gU_wR, wI_wI, wJ_wJ, wR_wR, j_s, j_add, j_addL, j_addR, j_mulL, j_mulR, j_cl, j_clL, j_neg, j_negL, j_nn, j_lt, j_le, j_eq, j_ltL, j_ltR, j_leL, j_leR, j_eqL, j_eqR, j_m1, j_m1L, j_m1R, j_eqLL, j_ltLL, j_leLL, n_le0, n_le1, n_lt0, n_lt1, gc_v, gc_n, ↓reduceIte, and_true, true_and, and_self, or_self, or_false, false_or, not_false_eq_true, not_true_eq_false, false_and, and_false, Nat.reduceAdd, Nat.reduceEqDiff, Nat.reduceLeDiff, Nat.reduceLT]
        rw [s259_52, eg]
        by_cases q1 : gOkN D p i j = true
        · by_cases q2 : dBk D (j + 1) = -1
          · simp (disch := first | omega | assumption) only [hm4.t, m_r39 hm4, m_t39 hm4, m_l39 hm4, m_r44 hm4, m_t44 hm4, m_l44 hm4, m_r49 hm4, m_t49 hm4, m_l49 hm4, m_r50 hm4, m_t50 hm4, m_l50 hm4, c0, b4, q1, q2, bk, up1_nc, up1_nj, Nat.zero_add, i10, s259_112, s259_116, s259_117, and11, and01, Bool.true_or, Bool.or_true, decide_true, decide_false, Bool.not_true, Bool.not_false, Bool.false_eq_true, Bool.true_and, Bool.false_and, Bool.and_true, Bool.and_false, Int32.or_zero, gT_wI, gR_wI, gL_wI, gS_wI, gU_wI, gI_wI, gJ_wI, gI_wJ, gJ_wJ, gR_wJ, gT_wJ, gL_wJ, gS_wJ, gU_wJ, gI_wR, gJ_wR, gR_wR, gT_wR, gL_wR, gS_wR, gU_wR, wI_wI, wJ_wJ, wR_wR, j_s, j_add, j_addL, j_addR, j_mulL, j_mulR, j_cl, j_clL, j_neg, j_negL, j_nn, j_lt, j_le, j_eq, j_ltL, j_ltR, j_leL, j_leR, j_eqL, j_eqR, j_m1, j_m1L, j_m1R, j_eqLL, j_ltLL, j_leLL, n_le0, n_le1, n_lt0, n_lt1, gc_v, gc_n, ↓reduceIte, and_true, true_and, and_self, or_self, or_false, false_or, not_false_eq_true, not_true_eq_false, false_and, and_false, Nat.reduceAdd, Nat.reduceEqDiff, Nat.reduceLeDiff, Nat.reduceLT]
          · by_cases q3 : dBk D (j + 1) = gr D p i (j + 1)
            · have q4 : ¬ gr D p i (j + 1) = -1 := fun z => q2 (q3.trans z)
              simp (disch := first | omega | assumption) only [hm4.t, m_r39 hm4, m_t39 hm4, m_l39 hm4, m_r44 hm4, m_t44 hm4, m_l44 hm4, m_r49 hm4, m_t49 hm4, m_l49 hm4, m_r50 hm4, m_t50 hm4, m_l50 hm4, c0, b4, q1, q3, q4, bk, up1_nc, up1_nj, Nat.zero_add, i10, s259_112, s259_116, s259_117, and11, and01, Bool.true_or, Bool.or_true, Bool.false_or, decide_true, decide_false, Bool.not_true, Bool.not_false, Bool.false_eq_true, Bool.true_and, Bool.false_and, Bool.and_true, Bool.and_false, Int32.or_zero, gT_wI, gR_wI, gL_wI, gS_wI, gU_wI, gI_wI, gJ_wI, gI_wJ, gJ_wJ, gR_wJ, gT_wJ, gL_wJ, gS_wJ, gU_wJ, gI_wR, gJ_wR, gR_wR, gT_wR, gL_wR, gS_wR, gU_wR, wI_wI, wJ_wJ, wR_wR, j_s, j_add, j_addL, j_addR, j_mulL, j_mulR, j_cl, j_clL, j_neg, j_negL, j_nn, j_lt, j_le, j_eq, j_ltL, j_ltR, j_leL, j_leR, j_eqL, j_eqR, j_m1, j_m1L, j_m1R, j_eqLL, j_ltLL, j_leLL, n_le0, n_le1, n_lt0, n_lt1, gc_v, gc_n, ↓reduceIte, and_true, true_and, and_self, or_self, or_false, false_or, not_false_eq_true, not_true_eq_false, false_and, and_false, Nat.reduceAdd, Nat.reduceEqDiff, Nat.reduceLeDiff, Nat.reduceLT]
            · simp (disch := first | omega | assumption) only [hm4.t, m_r39 hm4, m_t39 hm4, m_l39 hm4, m_r44 hm4, m_t44 hm4, m_l44 hm4, m_r49 hm4, m_t49 hm4, m_l49 hm4, m_r50 hm4, m_t50 hm4, m_l50 hm4, c0, b4, q1, q2, q3, bk, up1_nc, up1_nj, Nat.zero_add, i10, s259_112, s259_116, s259_117, and11, and01, Bool.or_self, Bool.or_false, decide_true, decide_false, Bool.not_true, Bool.not_false, Bool.false_eq_true, Bool.true_and, Bool.false_and, Bool.and_true, Bool.and_false, Int32.or_zero, gT_wI, gR_wI, gL_wI, gS_wI, gU_wI, gI_wI, gJ_wI, gI_wJ, gJ_wJ, gR_wJ, gT_wJ, gL_wJ, gS_wJ, gU_wJ, gI_wR, gJ_wR, gR_wR, gT_wR, gL_wR, gS_wR, gU_wR, wI_wI, wJ_wJ, wR_wR, j_s, j_add, j_addL, j_addR, j_mulL, j_mulR, j_cl, j_clL, j_neg, j_negL, j_nn, j_lt, j_le, j_eq, j_ltL, j_ltR, j_leL, j_leR, j_eqL, j_eqR, j_m1, j_m1L, j_m1R, j_eqLL, j_ltLL, j_leLL, n_le0, n_le1, n_lt0, n_lt1, gc_v, gc_n, ↓reduceIte, and_true, true_and, and_self, or_self, or_false, false_or, not_false_eq_true, not_true_eq_false, false_and, and_false, Nat.reduceAdd, Nat.reduceEqDiff, Nat.reduceLeDiff, Nat.reduceLT]
        · simp (disch := first | omega | assumption) only [hm4.t, m_r39 hm4, m_t39 hm4, m_l39 hm4, m_r44 hm4, m_t44 hm4, m_l44 hm4, m_r49 hm4, m_t49 hm4, m_l49 hm4, m_r50 hm4, m_t50 hm4, m_l50 hm4, c0, b4, q1, bk, up1_nc, up1_nj, Nat.zero_add, i10, s259_112, s259_116, s259_117, and11, and01, decide_true, decide_false, Bool.not_true, Bool.not_false, Bool.false_eq_true, Bool.true_and, Bool.false_and, Bool.and_true, Bool.and_false, Int32.or_zero, gT_wI, gR_wI, gL_wI, gS_wI, gU_wI, gI_wI, gJ_wI, gI_wJ, gJ_wJ, gR_wJ, gT_wJ, gL_wJ, gS_wJ, gU_wJ, gI_wR, gJ_wR, gR_wR, gT_wR, gL_wR, gS_wR, gU_wR, wI_wI, wJ_wJ, wR_wR, j_s, j_add, j_addL, j_addR, j_mulL, j_mulR, j_cl, j_clL, j_neg, j_negL, j_nn, j_lt, j_le, j_eq, j_ltL, j_ltR, j_leL, j_leR, j_eqL, j_eqR, j_m1, j_m1L, j_m1R, j_eqLL, j_ltLL, j_leLL, n_le0, n_le1, n_lt0, n_lt1, gc_v, gc_n, ↓reduceIte, and_true, true_and, and_self, or_self, or_false, false_or, not_false_eq_true, not_true_eq_false, false_and, and_false, Nat.reduceAdd, Nat.reduceEqDiff, Nat.reduceLeDiff, Nat.reduceLT]
      · rw [gI_wI, up1_nj _ _ (by omega), up1_nc _ _ _ (by omega), up1_nc _ _ _ (by omega), f4 1260 (by omega)]
        obtain ⟨k1, k2⟩ := p3 k hk
        refine ⟨k1, fun m m1 m2 => ?_⟩
        rw [up1_nj _ _ (by omega), f4 1259 (by omega)]
        exact k2 m m1 m2
      · rw [gI_wI, up1_eq]
      · rw [gI_wI, up1_nc _ _ _ (by omega)]
        by_cases z : m = j + 1
        · subst z; rw [up1_eq]
        · rw [up1_nj _ _ (by omega), f4 1259 (by omega)]
          exact g3 m m1 (by omega)

/-! ===== DECADES, the model's side ===== -/
set_option maxRecDepth 100000
theorem MC.u {I : Nat → Nat → Int32} {E : gdE} {al : Int32} {r : gdR} (hx : MC I E al r) {j : Nat} (hj : 42 < j) (v : Int32) : MC (up1 I 1231 j v) E al r := by
  obtain ⟨h0, ⟨iB, iN, iA⟩, iG, iK, iR, cS⟩ := hx
  refine ⟨h0, ⟨?_, ?_, ?_⟩, fun k hk => ?_, fun p hp => ?_, fun m hm => ?_, fun j hj => ?_⟩
  · rw [up1_nj _ _ (by omega)]; exact iB
  · rw [up1_nj _ _ (by omega)]; exact iN
  · rw [up1_nj _ _ (by omega)]; exact iA
  · rw [up1_nc _ _ _ (by omega)]; exact iG k hk
  · rw [up1_nc _ _ _ (by omega)]; exact iK p hp
  · rw [up1_nc _ _ _ (by omega)]; exact iR m hm
  · rw [up1_nc _ _ _ (by omega)]; exact cS j hj
theorem TM.u {h0 h : gd_H} {D : gdD} {al : Int32} {r : gdR} (t : TM h0 h D al r) (hi : MI h0 D) {j : Nat} (hj : j = 53 ∨ j = 54) (v : Int32) : TM h0 (wI h (up1 (gI h) 1231 j v)) D al r :=
  t.i ((t.x hi).2.1.u (by omega) v) (fun b hb => up1_nc _ _ _ (by unfold mper at hb; omega)) (fun k hk => up1_nj _ _ (fun z => by
    subst z
    rcases hk with hk | hk
    · rcases hj with rfl | rfl <;> revert hk <;> decide
    · omega))
def TN (h0 h : gd_H) (D : gdD) (r : gdR) (s c : Int32) : Prop := TM h0 h D (-1) r ∧ gI h 1231 53 = s ∧ gI h 1231 54 = c
theorem TN.i {h0 h : gd_H} {D : gdD} {r r' : gdR} {s c : Int32} (t : TN h0 h D r s c) {I' : Nat → Nat → Int32} (hx : MC I' (dE D) (-1) r') (hf : ∀ b, b = 1231 ∨ mper b → I' b = gI h b) : TN h0 (wI h I') D r' s c :=
  ⟨t.1.i hx (fun b hb => hf b (Or.inr hb)) (fun j _ => by rw [hf 1231 (Or.inl rfl)]), by rw [gI_wI, hf 1231 (Or.inl rfl)]; exact t.2.1, by rw [gI_wI, hf 1231 (Or.inl rfl)]; exact t.2.2⟩
theorem sp276 {h0 h : gd_H} {D : gdD} {r : gdR} {s c : Int32} (hi : MI h0 D) (t : TN h0 h D r s c) {n : Nat} (hn : 0 < n) (hn2 : n < 1000) {d : Nat} (hd : 1 ≤ d) : ∃ h', run gd_P0 d 276 [.ref 1231, .int (Int32.ofNat n)] h = some (.inl (some (.int (Int32.ofNat (dN (lcg s) n)))), h') ∧ TN h0 h' D r (lcg s) c := by
  obtain ⟨d, rfl⟩ : ∃ e, d = e + 1 := ⟨d - 1, by omega⟩
  obtain ⟨t, e1, e2⟩ := t
  have hm := (t.x hi).1
  refine ⟨wI h (up1 (gI h) 1231 53 (lcg s)), ?_, t.u hi (Or.inl rfl) _, up1_eq (gI h) 1231 53 (lcg s), by rw [gI_wI, up1_nj _ _ (by omega)]; exact e2⟩
  rw [r276, s276_0]
  have n0 : (n = 0) = False := eq_false (by omega)
  have n1 : (Int32.ofNat n = 0) = False := by rw [show (0 : Int32) = Int32.ofNat 0 from rfl, j_eq (by omega) (by omega)]; exact n0
  rw [← dN_eq (lcg s) hn hn2]
  simp only [hm.t, n1, e1, up1_eq, ↓reduceIte]
  rfl
theorem m275n {h0 h : gd_H} {D : gdD} {r : gdR} {s c : Int32} (hi : MI h0 D) (t : TN h0 h D r s c) {m : Nat} (hr : RI (dE D) m r) (hN0 : 0 < eN (dE D)) {q mo i : Int32} (hj : ¬ mo ≤ i) {d : Nat} (hd : 100 ≤ d) : ∃ h', go gd_P0 d 275 17 [.ref 1231, .null, .int q, .int mo, .int i, .null] [] h = go gd_P0 d 275 91 [.ref 1231, .null, .int q, .int mo, .int i, .null] [.int (Int32.ofNat (dN (lcg (lcg (lcg (lcg s)))) 16))] h' ∧ TN h0 h' D (rw1 (pDn (dE D) r (lcg s)) (7 + dN (lcg (lcg s)) (eN (dE D))) (Int32.ofNat (dN (lcg (lcg (lcg s))) 10))) (lcg (lcg (lcg (lcg s)))) (pDc (dE D) r (lcg s) c) := by
  have hN7 := hr.1.2
  obtain ⟨hm0, hx0, -⟩ := t.1.x hi
  obtain ⟨-, ⟨iB, iN, iA⟩, -⟩ := id hx0
  have c0 := t.2.2
  obtain ⟨h1, e1, t1⟩ := sp276 hi t (n := eN (dE D)) hN0 (by omega) (d := d) (by omega)
  obtain ⟨hm1, hx1, -⟩ := t1.1.x hi
  have hp := dN_lt (s := lcg s) hN0
  obtain ⟨I', e2, e3, e4⟩ := sp214 (d := d) (by omega) hm1 hx1 hr (dN (lcg s) (eN (dE D))) (by omega)
  have t2 : TN h0 (wI h1 I') D (pDn (dE D) r (lcg s)) (lcg s) c := t1.i e3 (fun b hb => e4 b (by unfold mper at hb; omega))
  have t3 : TN h0 (wI (wI h1 I') (up1 I' 1231 54 (pDc (dE D) r (lcg s) c))) D (pDn (dE D) r (lcg s)) (lcg s) (pDc (dE D) r (lcg s) c) := ⟨t2.1.u hi (Or.inr rfl) _, by rw [gI_wI, up1_nj _ _ (by omega)]; exact t2.2.1, up1_eq I' 1231 54 _⟩
  obtain ⟨hm3, hx3, -⟩ := t3.1.x hi
  obtain ⟨-, ⟨-, iN3, -⟩, -⟩ := id hx3
  obtain ⟨h4, e5, t4⟩ := sp276 hi t3 (n := eN (dE D)) hN0 (by omega) (d := d) (by omega)
  have hp4 := dN_lt (s := lcg (lcg s)) hN0
  obtain ⟨hm4, hx4, -⟩ := t4.1.x hi
  obtain ⟨h5, e6, t5⟩ := sp276 hi t4 (n := 10) (by omega) (by omega) (d := d) (by omega)
  obtain ⟨hm5, hx5, -⟩ := t5.1.x hi
  obtain ⟨I6, e7, e8, e9⟩ := sp217 (d := d) (by omega) hm5 hx5 (7 + dN (lcg (lcg s)) (eN (dE D))) (by omega) (Int32.ofNat (dN (lcg (lcg (lcg s))) 10))
  have t6 : TN h0 (wI h5 I6) D _ _ _ := t5.i e8 (fun b hb => e9 b (by unfold mper at hb; omega))
  obtain ⟨hm6, -, -⟩ := t6.1.x hi
  obtain ⟨h7, e10, t7⟩ := sp276 hi t6 (n := 16) (by omega) (by omega) (d := d) (by omega)
  refine ⟨h7, ?_, t7⟩
  have e6' : run gd_P0 d 276 [.ref 1231, .int 10] h4 = _ := e6
  have e10' : run gd_P0 d 276 [.ref 1231, .int 16] (wI h5 I6) = _ := e10
  have n0 : ¬ Int32.ofNat (eN (dE D)) ≤ 0 := by rw [show (0 : Int32) = Int32.ofNat 0 from rfl, j_le (by omega) (by omega)]; omega
  have e47 : gc gd_P0 d 275 44 47 [.ref 1231, .null, .int q, .int mo, .int i, .null] [.int c, .ref 1231] (run gd_P0 d 214 [.ref 1231, .int (Int32.ofNat (dN (lcg s) (eN (dE D))))] h1) = gc gd_P0 d 275 64 67 [.ref 1231, .null, .int q, .int mo, .int i, .null] [] (run gd_P0 d 276 [.ref 1231, .int (Int32.ofNat (eN (dE D)))] (wI (wI h1 I') (up1 I' 1231 54 (pDc (dE D) r (lcg s) c)))) := by
    have iN2 : ∀ v, up1 I' 1231 54 v 1231 21 = Int32.ofNat (eN (dE D)) := fun v => by rw [up1_nj _ _ (by omega)]; exact (t2.1.x hi).2.1.2.1.2.1
    rw [e2, gc_v, s275_47]
    unfold pDc
    by_cases b : pNoB (dE D) r (dN (lcg s) (eN (dE D))) = true
    · simp only [b, i10, ↓reduceIte]
      rw [s275_55]
      simp only [gT_wI, hm1.t, gI_wI, iN2, ↓reduceIte]
    · simp only [b, Bool.false_eq_true, ↓reduceIte]
      rw [s275_55]
      simp only [gT_wI, hm1.t, gI_wI, iN2, Int32.add_zero, ↓reduceIte]
  rw [s275_17]
  simp (disch := first | omega | assumption) only [hm0.t, hj, iN, n0, c0, e1, s275_44, hm1.t, gT_wI, gR_wI, gL_wI, gS_wI, gU_wI, gI_wI, gJ_wI, gI_wJ, gJ_wJ, gR_wJ, gT_wJ, gL_wJ, gS_wJ, gU_wJ, gI_wR, gJ_wR, gR_wR, gT_wR, gL_wR, gS_wR, gU_wR, wI_wI, wJ_wJ, wR_wR, j_s, j_add, j_addL, j_addR, j_mulL, j_mulR, j_cl, j_clL, j_neg, j_negL, j_nn, j_lt, j_le, j_eq, j_ltL, j_ltR, j_leL, j_leR, j_eqL, j_eqR, j_m1, j_m1L, j_m1R, j_eqLL, j_ltLL, j_leLL, n_le0, n_le1, n_lt0, n_lt1, gc_v, gc_n, ↓reduceIte, and_true, true_and, and_self, or_self, or_false, false_or, not_false_eq_true, not_true_eq_false, false_and, and_false, Nat.reduceAdd, Nat.reduceEqDiff, Nat.reduceLeDiff, Nat.reduceLT]
  refine Eq.trans e47 ?_
  rw [e5, gc_v, s275_67]
  simp only [hm4.t, e6', gc_v, ↓reduceIte]
  rw [s275_81]
  simp only [hm5.t, ↓reduceIte, j_addL]
  refine Eq.trans (congrArg (gc gd_P0 d 275 _ _ _ _) e7) ?_
  rw [gc_v, s275_84]
  simp only [hm6.t, e10', gc_v, ↓reduceIte]
theorem m275o {h0 h : gd_H} {D : gdD} {r : gdR} {s c : Int32} (hi : MI h0 D) (t : TN h0 h D r s c) {q mo i : Int32} {d : Nat} (hd : 100 ≤ d) : ∃ h', go gd_P0 d 275 91 [.ref 1231, .null, .int q, .int mo, .int i, .null] [.int (Int32.ofNat (dN s 16))] h = go gd_P0 d 275 108 [.ref 1231, .null, .int q, .int mo, .int i, .null] [] h' ∧ TN h0 h' D (pDo q s r) (pDs q s) c := by
  obtain ⟨hm0, -, -⟩ := t.1.x hi
  unfold pDo pDs
  by_cases b : q ≤ Int32.ofNat (dN s 16)
  · refine ⟨h, ?_, ?_⟩
    · rw [s275_91, if_pos b]
    · rw [if_pos b, if_pos b]; exact t
  · obtain ⟨h1, e1, t1⟩ := sp276 hi t (n := 10) (by omega) (by omega) (d := d) (by omega)
    obtain ⟨hm1, hx1, -⟩ := t1.1.x hi
    obtain ⟨I', e3, e4, e5⟩ := sp217 (d := d) (by omega) hm1 hx1 48 (by omega) (Int32.ofNat (dN (lcg s) 10))
    refine ⟨wI h1 I', ?_, ?_⟩
    · have e1' : run gd_P0 d 276 [.ref 1231, .int 10] h = _ := e1
      rw [s275_91, if_neg b]
      simp only [hm0.t, e1', gc_v, ↓reduceIte]
      rw [s275_104]
      simp only [hm1.t, ↓reduceIte]
      refine Eq.trans (congrArg (gc gd_P0 d 275 _ _ _ _) e3) ?_
      rw [gc_v, s275_107]
    · rw [if_neg b, if_neg b]
      exact t1.i e4 (fun b hb => e5 b (by unfold mper at hb; omega))
theorem m275m {h0 h : gd_H} {D : gdD} {r : gdR} {s c : Int32} (hi : MI h0 D) (t : TN h0 h D r s c) (hE : EI (dE D)) {m : Nat} (hr : RI (dE D) m r) (hm2 : m < 1000000) {q mo i : Int32} {d : Nat} (hd : 100 ≤ d) : ∃ h', go gd_P0 d 275 108 [.ref 1231, .null, .int q, .int mo, .int i, .null] [] h = go gd_P0 d 275 17 [.ref 1231, .null, .int q, .int mo, .int (i + 1), .null] [] h' ∧ TN h0 h' D (pMo (dE D) (-1) r) s c := by
  obtain ⟨hm0, hx0, hl0⟩ := t.1.x hi
  obtain ⟨I', e1, e2, e3⟩ := sp219 (d := d) (by omega) hm0 hx0 hr hm2 hE hl0
  refine ⟨wI h I', ?_, t.i e2 (fun b hb => e3 b (by unfold mper at hb; omega) (by unfold mper at hb; omega) (by unfold mper at hb; omega) (by unfold mper at hb; omega))⟩
  rw [s275_108]
  simp only [hm0.t, e1, gc_n, ↓reduceIte]
  rw [s275_112]
/-- the model's decade, from any of its heaps -/
theorem sp275 {h0 h : gd_H} {D : gdD} {r0 : gdR} (hi : MI h0 D) (hD : DI D) (t0 : TM h0 h D (-1) r0) (seed q : Int32) {mo : Nat} (hmo : mo ≤ 96) {d : Nat} (hd : 110 ≤ d) : ∃ h', run gd_P0 d 275 [.ref 1231, .int seed, .int q, .int (Int32.ofNat mo)] h = some (.inl none, h') ∧ TN h0 h' D (pDec (dE D) q (dNow D) seed mo).1 (pDec (dE D) q (dNow D) seed mo).2.1 (pDec (dE D) q (dNow D) seed mo).2.2 := by
  obtain ⟨d, rfl⟩ : ∃ e, d = e + 1 := ⟨d - 1, by omega⟩
  obtain ⟨m, hm, hr⟩ := hD.2.1 (dW D) (Nat.le_refl _)
  have hE := hD.1
  obtain ⟨hmS, -, -⟩ := t0.x hi
  obtain ⟨h1, e1, t1⟩ := sp211t hi t0 (d := d) (by omega)
  obtain ⟨hm1, -, -⟩ := t1.x hi
  have t1a : TM h0 (wI h1 (up1 (gI h1) 1231 53 seed)) D (-1) (dNow D) := t1.u hi (Or.inl rfl) _
  have tl : TN h0 (wI h1 (up1 (up1 (gI h1) 1231 53 seed) 1231 54 0)) D (dNow D) seed 0 := ⟨t1a.u hi (Or.inr rfl) 0, by rw [gI_wI, up1_nj _ _ (by decide), up1_eq], by rw [gI_wI, up1_eq]⟩
  have L := lp_e (fun i s => go gd_P0 d 275 17 [.ref 1231, .null, .int q, .int (Int32.ofNat mo), .int (Int32.ofNat i), .null] [] s) (fun i s => TN h0 s D (pDec (dE D) q (dNow D) seed i).1 (pDec (dE D) q (dNow D) seed i).2.1 (pDec (dE D) q (dNow D) seed i).2.2) mo _ tl ?_
  · obtain ⟨h2, e2, t2⟩ := L
    refine ⟨h2, ?_, t2⟩
    rw [r275, s275_0]
    simp (disch := first | omega | assumption) only [hmS.t, hm1.t, e1, gc_n, s275_4, ↓reduceIte]
    refine Eq.trans ((s275_17 ..).trans (s275_17 ..).symm) (e2.trans ?_)
    try dsimp only
    rw [s275_17]
    simp (disch := first | omega | assumption) only [gT_wI, gR_wI, gL_wI, gS_wI, gU_wI, gI_wI, gJ_wI, gI_wJ, gJ_wJ, gR_wJ, gT_wJ, gL_wJ, gS_wJ, gU_wJ, gI_wR, gJ_wR, gR_wR, gT_wR, gL_wR, gS_wR, gU_wR, wI_wI, wJ_wJ, wR_wR, j_s, j_add, j_addL, j_addR, j_mulL, j_mulR, j_cl, j_clL, j_neg, j_negL, j_nn, j_lt, j_le, j_eq, j_ltL, j_ltR, j_leL, j_leR, j_eqL, j_eqR, j_m1, j_m1L, j_m1R, j_eqLL, j_ltLL, j_leLL, n_le0, n_le1, n_lt0, n_lt1, gc_v, gc_n, ↓reduceIte, and_true, true_and, and_self, or_self, or_false, false_or, not_false_eq_true, not_true_eq_false, false_and, and_false, Nat.reduceAdd, Nat.reduceEqDiff, Nat.reduceLeDiff, Nat.reduceLT]
  · intro i hi3 s t
    try dsimp only
    have hri := RI.pDec hE q hr seed i (by omega)
    have hmi : ¬ Int32.ofNat mo ≤ Int32.ofNat i := by rw [j_le (by omega) (by omega)]; omega
    show ∃ y, _ ∧ TN h0 y D (pD (dE D) q (pDec (dE D) q (dNow D) seed i)).1 (pD (dE D) q (pDec (dE D) q (dNow D) seed i)).2.1 (pD (dE D) q (pDec (dE D) q (dNow D) seed i)).2.2
    unfold pD
    by_cases c : eN (dE D) = 0
    · rw [if_pos c]
      obtain ⟨h3, e3, t3⟩ := m275m hi t hE hri (show m + i < 1000000 by omega) (q := q) (mo := Int32.ofNat mo) (i := Int32.ofNat i) (d := d) (by omega)
      refine ⟨h3, ?_, t3⟩
      rw [← j_s, ← e3]
      obtain ⟨hm0, hx0, hl0⟩ := t.1.x hi
      obtain ⟨-, ⟨iB, iN, iA⟩, -⟩ := id hx0
      rw [s275_17]
      simp (disch := first | omega | assumption) only [hm0.t, iN, c, hmi, gT_wI, gR_wI, gL_wI, gS_wI, gU_wI, gI_wI, gJ_wI, gI_wJ, gJ_wJ, gR_wJ, gT_wJ, gL_wJ, gS_wJ, gU_wJ, gI_wR, gJ_wR, gR_wR, gT_wR, gL_wR, gS_wR, gU_wR, wI_wI, wJ_wJ, wR_wR, j_s, j_add, j_addL, j_addR, j_mulL, j_mulR, j_cl, j_clL, j_neg, j_negL, j_nn, j_lt, j_le, j_eq, j_ltL, j_ltR, j_leL, j_leR, j_eqL, j_eqR, j_m1, j_m1L, j_m1R, j_eqLL, j_ltLL, j_leLL, n_le0, n_le1, n_lt0, n_lt1, gc_v, gc_n, ↓reduceIte, and_true, true_and, and_self, or_self, or_false, false_or, not_false_eq_true, not_true_eq_false, false_and, and_false, Nat.reduceAdd, Nat.reduceEqDiff, Nat.reduceLeDiff, Nat.reduceLT]
    · rw [if_neg c]
      obtain ⟨h4, e4, t4⟩ := m275n hi t hri (by omega) (q := q) hmi (d := d) (by omega)
      obtain ⟨h5, e5, t5⟩ := m275o hi t4 (q := q) (mo := Int32.ofNat mo) (i := Int32.ofNat i) (d := d) (by omega)
      have hr5 := ((hri.pDn (lcg (pDec (dE D) q (dNow D) seed i).2.1) (by omega)).rw (j := 7 + dN (lcg (lcg (pDec (dE D) q (dNow D) seed i).2.1)) (eN (dE D))) (v := Int32.ofNat (dN (lcg (lcg (lcg (pDec (dE D) q (dNow D) seed i).2.1))) 10)) (Or.inl (by have := dN_lt (s := lcg (lcg (pDec (dE D) q (dNow D) seed i).2.1)) (n := eN (dE D)) (by omega); have := hri.1.2; omega))).pDo q (lcg (lcg (lcg (lcg (pDec (dE D) q (dNow D) seed i).2.1))))
      obtain ⟨h6, e6, t6⟩ := m275m hi t5 hE hr5 (show m + i < 1000000 by omega) (q := q) (mo := Int32.ofNat mo) (i := Int32.ofNat i) (d := d) (by omega)
      exact ⟨h6, by rw [← j_s, e4, e5, e6], t6⟩
theorem sp274 {h : gd_H} {d : Nat} (hd : 1 ≤ d) (q mo : Int32) : run gd_P0 d 274 [.int q, .int mo] h = some (.inl (some (.int (if q < 0 then 0 else if 16 < q then 0 else if mo < 1 then 0 else if 96 < mo then 0 else 1))), h) := by
  obtain ⟨d, rfl⟩ : ∃ e, d = e + 1 := ⟨d - 1, by omega⟩
  rw [r274, s274_0]
  by_cases c1 : q < 0
  · simp (disch := first | omega | assumption) only [c1, s274_25, s274_26, true_or, gT_wI, gR_wI, gL_wI, gS_wI, gU_wI, gI_wI, gJ_wI, gI_wJ, gJ_wJ, gR_wJ, gT_wJ, gL_wJ, gS_wJ, gU_wJ, gI_wR, gJ_wR, gR_wR, gT_wR, gL_wR, gS_wR, gU_wR, wI_wI, wJ_wJ, wR_wR, j_s, j_add, j_addL, j_addR, j_mulL, j_mulR, j_cl, j_clL, j_neg, j_negL, j_nn, j_lt, j_le, j_eq, j_ltL, j_ltR, j_leL, j_leR, j_eqL, j_eqR, j_m1, j_m1L, j_m1R, j_eqLL, j_ltLL, j_leLL, n_le0, n_le1, n_lt0, n_lt1, gc_v, gc_n, ↓reduceIte, and_true, true_and, and_self, or_self, or_false, false_or, not_false_eq_true, not_true_eq_false, false_and, and_false, Nat.reduceAdd, Nat.reduceEqDiff, Nat.reduceLeDiff, Nat.reduceLT]
  · by_cases c2 : 16 < q
    · simp (disch := first | omega | assumption) only [c1, c2, s274_25, s274_26, true_or, gT_wI, gR_wI, gL_wI, gS_wI, gU_wI, gI_wI, gJ_wI, gI_wJ, gJ_wJ, gR_wJ, gT_wJ, gL_wJ, gS_wJ, gU_wJ, gI_wR, gJ_wR, gR_wR, gT_wR, gL_wR, gS_wR, gU_wR, wI_wI, wJ_wJ, wR_wR, j_s, j_add, j_addL, j_addR, j_mulL, j_mulR, j_cl, j_clL, j_neg, j_negL, j_nn, j_lt, j_le, j_eq, j_ltL, j_ltR, j_leL, j_leR, j_eqL, j_eqR, j_m1, j_m1L, j_m1R, j_eqLL, j_ltLL, j_leLL, n_le0, n_le1, n_lt0, n_lt1, gc_v, gc_n, ↓reduceIte, and_true, true_and, and_self, or_self, or_false, false_or, not_false_eq_true, not_true_eq_false, false_and, and_false, Nat.reduceAdd, Nat.reduceEqDiff, Nat.reduceLeDiff, Nat.reduceLT]
    · by_cases c3 : mo < 1
      · simp (disch := first | omega | assumption) only [c1, c2, c3, s274_25, s274_26, true_or, gT_wI, gR_wI, gL_wI, gS_wI, gU_wI, gI_wI, gJ_wI, gI_wJ, gJ_wJ, gR_wJ, gT_wJ, gL_wJ, gS_wJ, gU_wJ, gI_wR, gJ_wR, gR_wR, gT_wR, gL_wR, gS_wR, gU_wR, wI_wI, wJ_wJ, wR_wR, j_s, j_add, j_addL, j_addR, j_mulL, j_mulR, j_cl, j_clL, j_neg, j_negL, j_nn, j_lt, j_le, j_eq, j_ltL, j_ltR, j_leL, j_leR, j_eqL, j_eqR, j_m1, j_m1L, j_m1R, j_eqLL, j_ltLL, j_leLL, n_le0, n_le1, n_lt0, n_lt1, gc_v, gc_n, ↓reduceIte, and_true, true_and, and_self, or_self, or_false, false_or, not_false_eq_true, not_true_eq_false, false_and, and_false, Nat.reduceAdd, Nat.reduceEqDiff, Nat.reduceLeDiff, Nat.reduceLT]
      · by_cases c4 : 96 < mo
        · simp (disch := first | omega | assumption) only [c1, c2, c3, c4, s274_25, s274_26, true_or, gT_wI, gR_wI, gL_wI, gS_wI, gU_wI, gI_wI, gJ_wI, gI_wJ, gJ_wJ, gR_wJ, gT_wJ, gL_wJ, gS_wJ, gU_wJ, gI_wR, gJ_wR, gR_wR, gT_wR, gL_wR, gS_wR, gU_wR, wI_wI, wJ_wJ, wR_wR, j_s, j_add, j_addL, j_addR, j_mulL, j_mulR, j_cl, j_clL, j_neg, j_negL, j_nn, j_lt, j_le, j_eq, j_ltL, j_ltR, j_leL, j_leR, j_eqL, j_eqR, j_m1, j_m1L, j_m1R, j_eqLL, j_ltLL, j_leLL, n_le0, n_le1, n_lt0, n_lt1, gc_v, gc_n, ↓reduceIte, and_true, true_and, and_self, or_self, or_false, false_or, not_false_eq_true, not_true_eq_false, false_and, and_false, Nat.reduceAdd, Nat.reduceEqDiff, Nat.reduceLeDiff, Nat.reduceLT]
        · simp (disch := first | omega | assumption) only [c1, c2, c3, c4, s274_25, s274_26, or_true, gT_wI, gR_wI, gL_wI, gS_wI, gU_wI, gI_wI, gJ_wI, gI_wJ, gJ_wJ, gR_wJ, gT_wJ, gL_wJ, gS_wJ, gU_wJ, gI_wR, gJ_wR, gR_wR, gT_wR, gL_wR, gS_wR, gU_wR, wI_wI, wJ_wJ, wR_wR, j_s, j_add, j_addL, j_addR, j_mulL, j_mulR, j_cl, j_clL, j_neg, j_negL, j_nn, j_lt, j_le, j_eq, j_ltL, j_ltR, j_leL, j_leR, j_eqL, j_eqR, j_m1, j_m1L, j_m1R, j_eqLL, j_ltLL, j_leLL, n_le0, n_le1, n_lt0, n_lt1, gc_v, gc_n, ↓reduceIte, and_true, true_and, and_self, or_self, or_false, false_or, not_false_eq_true, not_true_eq_false, false_and, and_false, Nat.reduceAdd, Nat.reduceEqDiff, Nat.reduceLeDiff, Nat.reduceLT]
theorem m273 {D : gdD} {seed q : Int32} {mo w : Nat} (h1 : ¬ q < 0) (h2 : ¬ 16 < q) (m1 : 1 ≤ mo) (m2 : mo ≤ 96) (hw : w ≤ 3) : MOk 273 [.int seed, .int q, .int (Int32.ofNat mo), .int (Int32.ofNat w)] D (.int (vDec D seed q mo w)) := by
  intro d h hd hi hD
  obtain ⟨d, rfl⟩ : ∃ e, d = e + 1 := ⟨d - 1, by omega⟩
  obtain ⟨hz, ez, hiz, z0, tz⟩ := TM.z hi
  have hm := hi.1
  have hmz := hiz.1
  obtain ⟨m, hm4, hr⟩ := hD.2.1 (dW D) (Nat.le_refl _)
  have hE := hD.1
  have e183 := sp183 hmz z0 (d := d) (by omega) 1 1
  have t0 := tz _ hiz.mc0
  obtain ⟨h2', e275, t2⟩ := sp275 hi hD t0 seed q m2 (d := d) (by omega)
  obtain ⟨hm2, hx2, hl2⟩ := t2.1.x hi
  obtain ⟨⟨hB, hN⟩, ⟨iB, iN, iA⟩, -⟩ := id hx2
  have hr2 := RI.pDec hE q hr seed mo (by omega)
  have m3 : ¬ Int32.ofNat mo < 1 := by rw [j_ltR (by omega) (by omega)]; omega
  have m4 : ¬ (96 : Int32) < Int32.ofNat mo := by rw [j_ltL (by omega) (by omega)]; omega
  have e274 : run gd_P0 d 274 [.int q, .int (Int32.ofNat mo)] hz = some (.inl (some (.int 1)), hz) := by rw [sp274 (d := d) (by omega), if_neg h1, if_neg h2, if_neg m3, if_neg m4]
  obtain ⟨q1, q2⟩ := t2.1.mz hi
  have t22 := t2.2.2
  refine ⟨h2', ?_, q1, q2⟩
  rw [r273, s273_0]
  simp only [hm.t, ez, e274, gc_v, ↓reduceIte]
  rw [s273_11]
  unfold vDec
  rcases c04 hw with rfl | rfl | rfl | rfl
  all_goals simp (disch := first | omega | assumption) only [hmz.t, hm2.t, i10, sp233 (d := d) (by omega), s273_21, s273_29, e183, s273_34, e275, s273_46, iB, t22, sp216 (d := d) (by omega) hm2 hx2, sp243 (d := d) (by omega) hm2 hx2, sp235 (d := d) (by omega) hm2 hx2 hr2, s273_59, s273_72, s273_85, s273_92, gT_wI, gR_wI, gL_wI, gS_wI, gU_wI, gI_wI, gJ_wI, gI_wJ, gJ_wJ, gR_wJ, gT_wJ, gL_wJ, gS_wJ, gU_wJ, gI_wR, gJ_wR, gR_wR, gT_wR, gL_wR, gS_wR, gU_wR, wI_wI, wJ_wJ, wR_wR, j_s, j_add, j_addL, j_addR, j_mulL, j_mulR, j_cl, j_clL, j_neg, j_negL, j_nn, j_lt, j_le, j_eq, j_ltL, j_ltR, j_leL, j_leR, j_eqL, j_eqR, j_m1, j_m1L, j_m1R, j_eqLL, j_ltLL, j_leLL, n_le0, n_le1, n_lt0, n_lt1, gc_v, gc_n, ↓reduceIte, and_true, true_and, and_self, or_self, or_false, false_or, not_false_eq_true, not_true_eq_false, false_and, and_false, Nat.reduceAdd, Nat.reduceEqDiff, Nat.reduceLeDiff, Nat.reduceLT]
theorem m273a {D : gdD} {seed q mo v : Int32} (hv : q < 0 ∨ 16 < q ∨ mo < 1 ∨ 96 < mo ∨ v < 0 ∨ 3 < v) : MNo 273 [.int seed, .int q, .int mo, .int v] D 25 1 (.int 0) := by
  intro d h hd hi hD
  obtain ⟨d, rfl⟩ : ∃ e, d = e + 1 := ⟨d - 1, by omega⟩
  obtain ⟨hz, ez, hiz, z0, qz⟩ := hi.z
  have hm := hi.1
  have hmz := hiz.1
  have e183 := sp183n hmz z0 (d := d) (by omega) (c := 1) (by decide) 25 (by omega) (by omega)
  have fin : go gd_P0 d 273 28 [.ref 1231, .int seed, .int q, .int mo, .int v] [.ref 1231] hz = some (.inl (some (.int 0)), mthr 25 1 h) := by
    rw [s273_28, s273_29]
    simp only [hmz.t, ↓reduceIte]
    refine Eq.trans (congrArg (gc gd_P0 d 273 _ _ _ _) e183) ?_
    rw [gc_v, s273_34, if_pos rfl]
    subst ez
    rw [mthr_z]
  rw [r273, s273_0]
  simp only [hm.t, ez, sp274 (d := d) (by omega), ↓reduceIte, gc_v, s273_11]
  by_cases a1 : q < 0
  · simp only [a1, ↓reduceIte]; exact fin
  · by_cases a2 : 16 < q
    · simp only [a1, a2, ↓reduceIte]; exact fin
    · by_cases a3 : mo < 1
      · simp only [a1, a2, a3, ↓reduceIte]; exact fin
      · by_cases a4 : 96 < mo
        · simp only [a1, a2, a3, a4, ↓reduceIte]; exact fin
        · simp only [a1, a2, a3, a4, i10, ↓reduceIte, sp233 (d := d) (by omega), gc_v, s273_21]
          by_cases a5 : v < 0
          · simp only [a5, ↓reduceIte]; exact fin
          · have a6 : 3 < v := ((((hv.resolve_left a1).resolve_left a2).resolve_left a3).resolve_left a4).resolve_left a5
            simp only [a5, a6, ↓reduceIte]; exact fin

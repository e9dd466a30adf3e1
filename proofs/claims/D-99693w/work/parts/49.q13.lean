/-! ===== WHOSE FOOD IT WAS: fits, look ===== -/
set_option maxRecDepth 100000
/-- how high a boy is after m months, by the k-th pair of food and rain -/
def gr (D : gdD) (p k m : Nat) : Int32 := mN (dE D) (Int32.ofNat (k % 10)) m (rw1 (dNow D) (7 + p) (Int32.ofNat (k / 10))) p
def gOkN (D : gdD) (p k n : Nat) : Bool := fo (fun i b => b && (decide (dBk D (i + 1) = -1) || decide (dBk D (i + 1) = gr D p k (i + 1)))) n true
def gOk (D : gdD) (p k : Nat) : Bool := gOkN D p k 12
theorem gOkN_iff (D : gdD) (p k : Nat) : ∀ n, gOkN D p k n = true ↔ ∀ i, i < n → dBk D (i + 1) = -1 ∨ dBk D (i + 1) = gr D p k (i + 1)
  | 0 => ⟨fun _ i h => absurd h (Nat.not_lt_zero i), fun _ => rfl⟩
  | n + 1 => by
    have e : gOkN D p k (n + 1) = (gOkN D p k n && (decide (dBk D (n + 1) = -1) || decide (dBk D (n + 1) = gr D p k (n + 1)))) := rfl
    rw [e, Bool.and_eq_true, Bool.or_eq_true, decide_eq_true_eq, decide_eq_true_eq, gOkN_iff D p k n]
    constructor
    · intro ⟨h1, h2⟩ i hi
      by_cases z : i = n
      · subst z; exact h2
      · exact h1 i (by omega)
    · intro h
      exact ⟨fun i hi => h i (by omega), h n (by omega)⟩
theorem gr_n {D : gdD} (hD : DI D) {p k m : Nat} (hp : p < 7) (hk : k < 100) (hm : m ≤ 12) : ∃ v, v ≤ 999 ∧ gr D p k m = Int32.ofNat v := by
  obtain ⟨m0, h0, hr⟩ := hD.2.1 (dW D) (Nat.le_refl _)
  exact (RI.mN hD.1 (Or.inr ⟨k % 10, by omega, rfl⟩) (hr.rw (j := 7 + p) (v := Int32.ofNat (k / 10)) (Or.inl (by omega))) m (by omega)).2.2.2.1 p hp
def pFit (D : gdD) (p n : Nat) : Int32 × Int32 := fo (fun k x => if gOk D p k = true then (x.1 + 1, if x.2 = -1 then Int32.ofNat k else x.2) else x) n (0, -1)
def vFit (D : gdD) (p w : Nat) : Int32 := if w = 0 then (pFit D p 100).1 else (pFit D p 100).2
theorem pFit_or (D : gdD) (p : Nat) : ∀ n, ∃ c, c ≤ n ∧ (pFit D p n).1 = Int32.ofNat c ∧ (c = 0 → (pFit D p n).2 = -1) ∧ (c ≠ 0 → ∃ q, q < n ∧ (pFit D p n).2 = Int32.ofNat q)
  | 0 => ⟨0, by omega, rfl, fun _ => rfl, fun z => absurd rfl z⟩
  | n + 1 => by
    obtain ⟨c, h1, h2, h3, h4⟩ := pFit_or D p n
    by_cases q : gOk D p n = true
    · refine ⟨c + 1, by omega, ?_, fun z => by omega, fun _ => ?_⟩
      · show (if gOk D p n = true then ((pFit D p n).1 + 1, if (pFit D p n).2 = -1 then Int32.ofNat n else (pFit D p n).2) else pFit D p n).1 = _
        rw [if_pos q]
        show (pFit D p n).1 + 1 = _
        rw [h2, j_s]
      · show ∃ q, q < n + 1 ∧ (if gOk D p n = true then ((pFit D p n).1 + 1, if (pFit D p n).2 = -1 then Int32.ofNat n else (pFit D p n).2) else pFit D p n).2 = _
        rw [if_pos q]
        show ∃ q, q < n + 1 ∧ (if (pFit D p n).2 = -1 then Int32.ofNat n else (pFit D p n).2) = _
        split
        · exact ⟨n, by omega, rfl⟩
        · next z =>
          by_cases c0 : c = 0
          · exact absurd (h3 c0) z
          · obtain ⟨q, q1, q2⟩ := h4 c0
            exact ⟨q, by omega, q2⟩
    · have e : pFit D p (n + 1) = pFit D p n := if_neg q
      rw [e]
      exact ⟨c, by omega, h2, h3, fun z => by
        obtain ⟨q, q1, q2⟩ := h4 z
        exact ⟨q, by omega, q2⟩⟩
/-- counts by height, and the worst, of the first n pairs in month m -/
def pCnt (D : gdD) (p m n : Nat) : (Nat → Int32) × Int32 := fo (fun k x => if gOk D p k = true then (rw1 x.1 (gr D p k m).toNatClampNeg (x.1 (gr D p k m).toNatClampNeg + 1), jmax x.2 (x.1 (gr D p k m).toNatClampNeg + 1)) else x) n (fun _ => 0, 0)
def pWor (D : gdD) (p m : Nat) : Int32 := (pCnt D p m 100).2
/-- best month, how many are left: of the months 1 .. n -/
def pLook (D : gdD) (p n : Nat) : Int32 × Int32 := fo (fun i x => if dBk D (i + 1) = -1 then (if x.1 = -1 then (Int32.ofNat (i + 1), pWor D p (i + 1)) else if pWor D p (i + 1) < x.2 then (Int32.ofNat (i + 1), pWor D p (i + 1)) else x) else x) n (-1, -1)
def vLook (D : gdD) (p w : Nat) : Int32 := if w = 0 then (pLook D p 12).1 else (pLook D p 12).2
theorem XC.wL {I : Nat → Nat → Int32} {a σ : Nat} {E : gdE} {al : Int32} {r : gdR} (hx : XC I a σ E al r) (hA2 : a + 16 ≤ 1212) (hS1 : 1223 < σ) (v : Int32) : XC (up1 I a 13 v) a σ E v r := by
  obtain ⟨⟨hB, hN⟩, ⟨iB, iN⟩, iG, iK, iR, cH, cF, cO, cA, cC, cW, cT, cG, cM, cL⟩ := id hx
  refine ⟨⟨hB, hN⟩, ⟨?_, ?_⟩, ?_, ?_, ?_, ?_, ?_, ?_, ?_, ?_, ?_, ?_, ?_, ?_, ?_⟩
  · rw [up1_nc _ _ _ (by omega)]; exact iB
  · rw [up1_nc _ _ _ (by omega)]; exact iN
  · intro q hq; rw [up1_nc _ _ _ (by omega)]; exact iG q hq
  · intro q hq; rw [up1_nc _ _ _ (by omega)]; exact iK q hq
  · intro q hq; rw [up1_nc _ _ _ (by omega)]; exact iR q hq
  · intro q hq; rw [up1_nc _ _ _ (by omega)]; exact cH q hq
  · intro q hq; rw [up1_nc _ _ _ (by omega)]; exact cF q hq
  · intro q hq; rw [up1_nc _ _ _ (by omega)]; exact cO q hq
  · intro q hq; rw [up1_nc _ _ _ (by omega)]; exact cA q hq
  · intro q hq; rw [up1_nc _ _ _ (by omega)]; exact cC q hq
  · intro q hq; rw [up1_nj _ _ (by omega)]; exact cW q hq
  · intro q hq; rw [up1_nc _ _ _ (by omega)]; exact cT q hq
  · rw [up1_nj _ _ (by omega)]; exact cG
  · rw [up1_nj _ _ (by omega)]; exact cM
  · rw [up1_eq]
theorem XQ.us {h : gd_H} {b : Nat} (h1 : 1205 ≤ b) (h2 : b ≤ 1223) (h3 : b < 1216 ∨ 1218 < b) (j : Nat) (v : Int32) : XQ h (wI h (up1 (gI h) b j v)) := XQ.i fun x hx => up1_nc _ _ _ (by unfold scr at hx; omega)
theorem TQ.us {h0 h : gd_H} {D : gdD} {al : Int32} {r : gdR} (t : TQ h0 h D al r) {b : Nat} (h1 : 1205 ≤ b) (h2 : b ≤ 1223) (h3 : b < 1216 ∨ 1218 < b) (j : Nat) (v : Int32) : TQ h0 (wI h (up1 (gI h) b j v)) D al r := by
  obtain ⟨q, hi, σ, hs, hc, hl⟩ := t
  have q2 := XQ.us (h := h) h1 h2 h3 j v
  exact ⟨q.trans q2, hi.q q2, σ, hs.wI _, hc.fr hs.1.2.2 (fun x hb => up1_nc _ _ _ (by have := hs.1.2.2; omega)), hl.wI fun x hb => up1_nc _ _ _ (by omega)⟩
theorem tq152b {h0 h : gd_H} {D : gdD} {al : Int32} {r : gdR} (t : TQ h0 h D al r) (hE : EI (dE D)) {m : Nat} (hr : RI (dE D) m r) (hm : m < 1000000) {d : Nat} (hd : 182 ≤ d) : ∃ h', run gd_P0 d 152 [.ref 1196] h = some (.inl none, h') ∧ TQ h0 h' D al (pMo (dE D) al r) ∧ ∀ b, (b < 1196 ∨ 1204 < b) → gI h' b = gI h b := by
  obtain ⟨q, hi, σ, hs, hx, hl⟩ := id t
  obtain ⟨I', e1, e2, e3⟩ := sp152 (d := d) (by omega) hs hx hr hm hE hl
  refine ⟨_, e1, t.i (fun σ2 hs2 _ => ?_) (fun b hb => e3 b (by omega)), fun b hb => e3 b (by omega)⟩
  rw [← XC.σ hs hs2]
  exact e2
theorem sp74 {h : gd_H} {D : gdD} (hi : XI h D) (hD : DI D) {d : Nat} (hd : 190 ≤ d) {p k : Nat} (hp : p < eN (dE D)) (hk : k < 100) : ∃ h', run gd_P0 d 74 [.ref 96, .int (Int32.ofNat p), .int (Int32.ofNat (k / 10)), .int (Int32.ofNat (k % 10))] h = some (.inl (some (.int (if gOk D p k = true then 1 else 0))), h') ∧ XQ h h' ∧ (∀ m, 1 ≤ m → m ≤ 12 → gI h' 1219 m = gr D p k m) ∧ gI h' 1220 = gI h 1220 := by
  obtain ⟨d, rfl⟩ : ∃ e, d = e + 1 := ⟨d - 1, by omega⟩
  obtain ⟨m0, hm0, hr⟩ := hD.2.1 (dW D) (Nat.le_refl _)
  have hE := hD.1
  have hg := hi.1
  have hN := hr.1.2
  obtain ⟨h1, e68, t1, t9⟩ := sp68b hi hD (d := d) (by omega)
  obtain ⟨qh1, hi1, σ1, hs1, hx1, hl1⟩ := id t1
  have al : AI (Int32.ofNat (k % 10)) := Or.inr ⟨k % 10, by omega, rfl⟩
  have hr1 : RI (dE D) m0 (rw1 (dNow D) (7 + p) (Int32.ofNat (k / 10))) := hr.rw (Or.inl (by omega))
  have t2 : TQ h (wI h1 (up1 (up1 (gI h1) (1196 + 3) p (Int32.ofNat (k / 10))) 1196 13 (Int32.ofNat (k % 10)))) D (Int32.ofNat (k % 10)) (rw1 (dNow D) (7 + p) (Int32.ofNat (k / 10))) := t1.i (fun σ3 hs3 hx3 => (hx3.wF (by omega) hs3.1.2.2 (by omega) _).wL (by omega) hs3.1.2.2 _) (fun b hb => by rw [up1_nc _ _ _ (by omega), up1_nc _ _ _ (by omega)])
  have f20 : gI h1 1220 = gI h 1220 := t9 1220 (by omega)
  have L := lp_e (fun i s => go gd_P0 d 74 26 [.ref 96, .int (Int32.ofNat p), .null, .null, .int (Int32.ofNat (i + 1))] [] s) (fun i s => TQ h s D (Int32.ofNat (k % 10)) (mN (dE D) (Int32.ofNat (k % 10)) i (rw1 (dNow D) (7 + p) (Int32.ofNat (k / 10)))) ∧ (∀ m, 1 ≤ m → m ≤ i → gI s 1219 m = gr D p k m) ∧ gI s 1220 = gI h 1220) 12 _ ⟨t2, fun m a b => by omega, by rw [gI_wI, up1_nc _ _ _ (by omega), up1_nc _ _ _ (by omega)]; exact f20⟩ ?_
  · obtain ⟨h2, e2, t3, g3, f3⟩ := L
    obtain ⟨q3, hi3, -⟩ := id t3
    have hg3 := hi3.1
    refine ⟨h2, ?_, q3, g3, f3⟩
    obtain ⟨-, -, -, -, -, -, ⟨b1, b2, b3, b4⟩, -⟩ := id hi3
    obtain ⟨-, ⟨tA1', -⟩, -, -, ⟨rA2', tA3', lA3'⟩, -⟩ := id hs1
    have fin : go gd_P0 d 74 65 [.ref 96, .null, .null, .null, .int 0] [] h2 = some (.inl (some (.int (if gOk D p k = true then 1 else 0))), h2) := by
      have X := lp_x (fun i => go gd_P0 d 74 65 [.ref 96, .null, .null, .null, .int (Int32.ofNat i)] [] h2) (fun _ => some (.inl (some (.int 0)), h2)) (fun i => ¬ gI h2 1219 (gI h2 1217 i).toNatClampNeg = gI h2 1218 i) (dNb D) ?_ ?_
      · rcases X with ⟨i, x1, x2, -, x4⟩ | ⟨x1, x2⟩
        · obtain ⟨m, m1, m2, m3, m4, m5⟩ := b3 i x1
          rw [m3, j_cl (by omega), g3 m m1 m2, m4] at x2
          have gn : gOk D p k = false := Bool.eq_false_iff.mpr (fun z => by
            have z1 := (gOkN_iff D p k 12).mp z (m - 1) (by omega)
            rw [show m - 1 + 1 = m by omega] at z1
            exact z1.elim m5 (fun z2 => x2 z2.symm))
          rw [gn]
          exact x4
        · have gy0 : ∀ m, m < 13 → 1 ≤ m → dBk D m = -1 ∨ dBk D m = gr D p k m := fun m m1 m2 => by
            by_cases z : dBk D m = -1
            · exact Or.inl z
            · obtain ⟨i, i1, i2⟩ := b4 m m2 (by omega) z
              have x3 := Classical.not_not.mp (x1 i i1)
              obtain ⟨m', m1', m2', m3', m4', m5'⟩ := b3 i i1
              rw [i2] at m3'
              rw [j_eq (by omega) (by omega)] at m3'
              subst m3'
              rw [i2, j_cl (by omega), g3 m m2 (by omega), m4'] at x3
              exact Or.inr x3.symm
          have gy : gOk D p k = true := (gOkN_iff D p k 12).mpr (fun i i1 => gy0 (i + 1) (by omega) (by omega))
          rw [gy, if_pos rfl]
          refine x2.trans ?_
          try dsimp only
          rw [s74_65]
          simp (disch := first | omega | assumption) only [hg3.1, x_r4 hg3, x_t4 hg3, x_r8 hg3, x_t8 hg3, x_l8 hg3, x_r9 hg3, x_t9 hg3, x_l9 hg3, x_r10 hg3, x_t10 hg3, x_l10 hg3, b1, gT_wI, gR_wI, gL_wI, gS_wI, gU_wI, gI_wI, gJ_wI, gI_wJ, gJ_wJ, gR_wJ, gT_wJ, gL_wJ, gS_wJ, gU_wJ, gI_wR, gJ_wR, gR_wR, gT_wR, gL_wR, gS_wR, gU_wR, wI_wI, wJ_wJ, wR_wR, j_s, j_add, j_addL, j_addR, j_mulL, j_mulR, j_cl, j_clL, j_neg, j_negL, j_nn, j_lt, j_le, j_eq, j_ltL, j_ltR, j_leL, j_leR, j_eqL, j_eqR, j_m1, j_m1L, j_m1R, j_eqLL, j_ltLL, j_leLL, n_le0, n_le1, n_lt0, n_lt1, gc_v, gc_n, ↓reduceIte, and_true, true_and, and_self, or_self, or_false, false_or, not_false_eq_true, not_true_eq_false, false_and, and_false, Nat.reduceAdd, Nat.reduceEqDiff, Nat.reduceLeDiff, Nat.reduceLT]
      · intro i hi9 c
        obtain ⟨m, m1, m2, m3, m4, m5⟩ := b3 i hi9
        try dsimp only
        rw [m3, j_cl (by omega)] at c
        rw [s74_65]
        simp (disch := first | omega | assumption) only [hg3.1, x_r4 hg3, x_t4 hg3, x_r8 hg3, x_t8 hg3, x_l8 hg3, x_r9 hg3, x_t9 hg3, x_l9 hg3, x_r10 hg3, x_t10 hg3, x_l10 hg3, b1, m3, c, gT_wI, gR_wI, gL_wI, gS_wI, gU_wI, gI_wI, gJ_wI, gI_wJ, gJ_wJ, gR_wJ, gT_wJ, gL_wJ, gS_wJ, gU_wJ, gI_wR, gJ_wR, gR_wR, gT_wR, gL_wR, gS_wR, gU_wR, wI_wI, wJ_wJ, wR_wR, j_s, j_add, j_addL, j_addR, j_mulL, j_mulR, j_cl, j_clL, j_neg, j_negL, j_nn, j_lt, j_le, j_eq, j_ltL, j_ltR, j_leL, j_leR, j_eqL, j_eqR, j_m1, j_m1L, j_m1R, j_eqLL, j_ltLL, j_leLL, n_le0, n_le1, n_lt0, n_lt1, gc_v, gc_n, ↓reduceIte, and_true, true_and, and_self, or_self, or_false, false_or, not_false_eq_true, not_true_eq_false, false_and, and_false, Nat.reduceAdd, Nat.reduceEqDiff, Nat.reduceLeDiff, Nat.reduceLT]
      · intro i hi9 c
        have c := Classical.not_not.mp c
        obtain ⟨m, m1, m2, m3, m4, m5⟩ := b3 i hi9
        try dsimp only
        rw [m3, j_cl (by omega)] at c
        rw [s74_65]
        simp (disch := first | omega | assumption) only [hg3.1, x_r4 hg3, x_t4 hg3, x_r8 hg3, x_t8 hg3, x_l8 hg3, x_r9 hg3, x_t9 hg3, x_l9 hg3, x_r10 hg3, x_t10 hg3, x_l10 hg3, b1, m3, c, gT_wI, gR_wI, gL_wI, gS_wI, gU_wI, gI_wI, gJ_wI, gI_wJ, gJ_wJ, gR_wJ, gT_wJ, gL_wJ, gS_wJ, gU_wJ, gI_wR, gJ_wR, gR_wR, gT_wR, gL_wR, gS_wR, gU_wR, wI_wI, wJ_wJ, wR_wR, j_s, j_add, j_addL, j_addR, j_mulL, j_mulR, j_cl, j_clL, j_neg, j_negL, j_nn, j_lt, j_le, j_eq, j_ltL, j_ltR, j_leL, j_leR, j_eqL, j_eqR, j_m1, j_m1L, j_m1R, j_eqLL, j_ltLL, j_leLL, n_le0, n_le1, n_lt0, n_lt1, gc_v, gc_n, ↓reduceIte, and_true, true_and, and_self, or_self, or_false, false_or, not_false_eq_true, not_true_eq_false, false_and, and_false, Nat.reduceAdd, Nat.reduceEqDiff, Nat.reduceLeDiff, Nat.reduceLT]
    rw [r74, s74_0]
    simp (disch := first | omega | assumption) only [hg.1, e68, s74_4, hi1.1.1, x_r4 hi1.1, x_t4 hi1.1, tA1', rA2', tA3', lA3', gT_wI, gR_wI, gL_wI, gS_wI, gU_wI, gI_wI, gJ_wI, gI_wJ, gJ_wJ, gR_wJ, gT_wJ, gL_wJ, gS_wJ, gU_wJ, gI_wR, gJ_wR, gR_wR, gT_wR, gL_wR, gS_wR, gU_wR, wI_wI, wJ_wJ, wR_wR, j_s, j_add, j_addL, j_addR, j_mulL, j_mulR, j_cl, j_clL, j_neg, j_negL, j_nn, j_lt, j_le, j_eq, j_ltL, j_ltR, j_leL, j_leR, j_eqL, j_eqR, j_m1, j_m1L, j_m1R, j_eqLL, j_ltLL, j_leLL, n_le0, n_le1, n_lt0, n_lt1, gc_v, gc_n, ↓reduceIte, and_true, true_and, and_self, or_self, or_false, false_or, not_false_eq_true, not_true_eq_false, false_and, and_false, Nat.reduceAdd, Nat.reduceEqDiff, Nat.reduceLeDiff, Nat.reduceLT]
    refine Eq.trans ((s74_26 ..).trans (s74_26 ..).symm) (e2.trans ?_)
    try dsimp only
    rw [s74_26]
    simp (disch := first | omega | assumption) only [gT_wI, gR_wI, gL_wI, gS_wI, gU_wI, gI_wI, gJ_wI, gI_wJ, gJ_wJ, gR_wJ, gT_wJ, gL_wJ, gS_wJ, gU_wJ, gI_wR, gJ_wR, gR_wR, gT_wR, gL_wR, gS_wR, gU_wR, wI_wI, wJ_wJ, wR_wR, j_s, j_add, j_addL, j_addR, j_mulL, j_mulR, j_cl, j_clL, j_neg, j_negL, j_nn, j_lt, j_le, j_eq, j_ltL, j_ltR, j_leL, j_leR, j_eqL, j_eqR, j_m1, j_m1L, j_m1R, j_eqLL, j_ltLL, j_leLL, n_le0, n_le1, n_lt0, n_lt1, gc_v, gc_n, ↓reduceIte, and_true, true_and, and_self, or_self, or_false, false_or, not_false_eq_true, not_true_eq_false, false_and, and_false, Nat.reduceAdd, Nat.reduceEqDiff, Nat.reduceLeDiff, Nat.reduceLT]
    exact Eq.trans ((s74_65 ..).trans (s74_65 ..).symm) fin
  · intro i hi9 s ⟨t, g, f⟩
    try dsimp only
    obtain ⟨s', e152, t', f'⟩ := tq152b t hE (RI.mN hE al hr1 i (by omega)) (by omega) (d := d) (by omega)
    obtain ⟨q', hi', σ', hs', hx', hl'⟩ := id t'
    obtain ⟨-, hs0, -⟩ := id t
    have hgs := hs0.1
    have hg' := hi'.1
    obtain ⟨-, ⟨tA1', -⟩, -, ⟨rA1', tA2', lA2'⟩, -⟩ := id hs'
    obtain ⟨-, -, -, -, -, cH', -⟩ := id hx'
    have ch := cH' p (by omega)
    refine ⟨wI s' (up1 (gI s') 1219 (i + 1) (gr D p k (i + 1))), ?_, t'.us (by omega) (by omega) (by omega) _ _, fun m m1 m2 => ?_, ?_⟩
    · have ch' : gI s' 1198 p = gr D p k (i + 1) := ch
      rw [s74_26]
      simp (disch := first | omega | assumption) only [hgs.1, x_r4 hgs, x_t4 hgs, e152, s74_40, hg'.1, x_r4 hg', x_t4 hg', x_r10 hg', x_t10 hg', x_l10 hg', tA1', rA1', tA2', lA2', ch', gT_wI, gR_wI, gL_wI, gS_wI, gU_wI, gI_wI, gJ_wI, gI_wJ, gJ_wJ, gR_wJ, gT_wJ, gL_wJ, gS_wJ, gU_wJ, gI_wR, gJ_wR, gR_wR, gT_wR, gL_wR, gS_wR, gU_wR, wI_wI, wJ_wJ, wR_wR, j_s, j_add, j_addL, j_addR, j_mulL, j_mulR, j_cl, j_clL, j_neg, j_negL, j_nn, j_lt, j_le, j_eq, j_ltL, j_ltR, j_leL, j_leR, j_eqL, j_eqR, j_m1, j_m1L, j_m1R, j_eqLL, j_ltLL, j_leLL, n_le0, n_le1, n_lt0, n_lt1, gc_v, gc_n, ↓reduceIte, and_true, true_and, and_self, or_self, or_false, false_or, not_false_eq_true, not_true_eq_false, false_and, and_false, Nat.reduceAdd, Nat.reduceEqDiff, Nat.reduceLeDiff, Nat.reduceLT]
    · by_cases z : m = i + 1
      · subst z; exact up1_eq _ _ _ _
      · rw [gI_wI, up1_nj _ _ z, f' 1219 (by omega)]; exact g m m1 (by omega)
    · rw [gI_wI, up1_nc _ _ _ (by omega), f' 1220 (by omega)]; exact f

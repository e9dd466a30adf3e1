/-! ===== mates, mate: the model's answers ===== -/
set_option maxRecDepth 100000
theorem sp248w {h : gd_H} {r : gdR} {N : Nat} (hm : MS h) (iN : gI h 1231 21 = Int32.ofNat N) (hN : N ≤ 7) (i7 : ∀ j, j < 50 → gI h 1250 j = r j) (hr : ∀ p, p < 7 → ∃ v, v ≤ 999 ∧ r p = Int32.ofNat v) {d : Nat} (hd : 5 ≤ d) (v3 : Int32) : ∀ k s al c v f g J w4 w5 w6 w7 w8, s ≤ k → s < 128 → s < 2 ^ N → (∀ q, s.testBit q = true → q < N) → al ≤ 1 → mFr h J → mTb J r N (2 ^ N) → (∀ j, j < 7 → J 1257 j = f j) → mZ r N s al c f = some (v, g) → ∃ J', go gd_P0 d 248 94 [.ref 1231, .int (Int32.ofNat s), .int (Int32.ofNat al), .int v3, w4, w5, w6, w7, w8] [] (wI h J) = some (.inl (some (.int v3)), wI h J') ∧ mFr h J' ∧ ∀ j, j < 7 → J' 1257 j = g j := by
  intro k
  have Z : ∀ {al c v : Nat} {f g : gdR} {J : Nat → Nat → Int32} (w4 w5 w6 w7 w8), mFr h J → (∀ j, j < 7 → J 1257 j = f j) → mZ r N 0 al c f = some (v, g) → ∃ J', go gd_P0 d 248 94 [.ref 1231, .int (Int32.ofNat 0), .int (Int32.ofNat al), .int v3, w4, w5, w6, w7, w8] [] (wI h J) = some (.inl (some (.int v3)), wI h J') ∧ mFr h J' ∧ ∀ j, j < 7 → J' 1257 j = g j := by
    intro al c v f g J w4 w5 w6 w7 w8 hF hf hz
    unfold mZ at hz
    rw [mB_z] at hz
    split at hz
    · injection hz with hz
      injection hz with e1 e2
      subst e2
      exact ⟨J, by rw [s248_94, if_pos (by decide)], hF, hf⟩
    · cases hz
  induction k with
  | zero =>
    intro s al c v f g J w4 w5 w6 w7 w8 hk hs hsN hb ha hF hT hf hz
    have e : s = 0 := by omega
    subst e
    exact Z _ _ _ _ _ hF hf hz
  | succ k ih =>
    intro s al c v f g J w4 w5 w6 w7 w8 hk hs hsN hb ha hF hT hf hz
    by_cases e : s = 0
    · subst e
      exact Z _ _ _ _ _ hF hf hz
    · obtain ⟨l1, l2⟩ := mLow_p s hs e
      have l3 := hb _ l2
      have x1 := mX_lt s hs _ l1 l2
      have xr := sb_r s hs _ l1 l2
      have e250 := sp250 (h := wI h J) (d := d) (by omega) hs e
      have z : (Int32.ofNat s = 0) = False := by
        rw [show (0 : Int32) = Int32.ofNat 0 from rfl, j_eq (by omega) (by omega)]
        exact eq_false e
      have iN2 : J 1231 21 = Int32.ofNat N := by rw [hF 1231 (by omega) (by omega)]; exact iN
      have i72 : ∀ j, j < 50 → gI (wI h J) 1250 j = r j := by
        intro j hj
        rw [gI_wI, hF 1250 (by omega) (by omega)]; exact i7 j hj
      have hms : MS (wI h J) := hm
      have hN1 : Int32.ofNat N - 1 = Int32.ofNat (N - 1) := j_sub (m := N) (n := 1) (by omega)
      obtain ⟨T, hTt⟩ : ∃ T, mC r N s al = some T := by
        have ez := mZ_c r N s al c f
        rw [hz] at ez
        cases ht : mC r N s al with
        | none => rw [ht] at ez; cases ez
        | some T => exact ⟨T, rfl⟩
      have Tl := mC_le hr 128 s al (by omega) hs T hTt
      have TT : J 1256 (128 * al + s) = Int32.ofNat T := by rw [hT s hsN al ha, hTt]; rfl
      have ixs := ix_t al ha s hs
      have L := lp_f (fun i x => go gd_P0 d 248 125 [.ref 1231, .int (Int32.ofNat s), .int (Int32.ofNat al), .int v3, .int (Int32.ofNat (mLow s)), .int (Int32.ofNat (mX s (mLow s))), .int x, .int (Int32.ofNat (N - 1 - i)), .null] [] (wI h J)) (fun i x => if mPb r N s al (N - (mLow s + 1) - 1 - i) = true then Int32.ofNat (mLow s + 1 + (N - (mLow s + 1) - 1 - i)) else x) (N - (mLow s + 1)) (-1) ?_
      · have s0 : go gd_P0 d 248 94 [.ref 1231, .int (Int32.ofNat s), .int (Int32.ofNat al), .int v3, w4, w5, w6, w7, w8] [] (wI h J) = go gd_P0 d 248 125 [.ref 1231, .int (Int32.ofNat s), .int (Int32.ofNat al), .int v3, .int (Int32.ofNat (mLow s)), .int (Int32.ofNat (mX s (mLow s))), .int (-1), .int (Int32.ofNat (N - 1 - 0)), .null] [] (wI h J) := by
          rw [s248_94]
          simp (disch := first | omega | assumption) only [hm.t, m_r46 hm, m_t46 hm, m_l46 hm, m_r47 hm, m_t47 hm, m_l47 hm, z, e250, s248_102, xr, iN2, hN1, Nat.sub_zero, gT_wI, gR_wI, gL_wI, gS_wI, gU_wI, gI_wI, gJ_wI, gI_wJ, gJ_wJ, gR_wJ, gT_wJ, gL_wJ, gS_wJ, gU_wJ, gI_wR, gJ_wR, gR_wR, gT_wR, gL_wR, gS_wR, gU_wR, wI_wI, wJ_wJ, wR_wR, j_s, j_add, j_addL, j_addR, j_mulL, j_mulR, j_cl, j_clL, j_neg, j_negL, j_nn, j_lt, j_le, j_eq, j_ltL, j_ltR, j_leL, j_leR, j_eqL, j_eqR, j_m1, j_m1L, j_m1R, j_eqLL, j_ltLL, j_leLL, n_le0, n_le1, n_lt0, n_lt1, gc_v, gc_n, ↓reduceIte, and_true, true_and, and_self, or_self, or_false, false_or, not_false_eq_true, not_true_eq_false, false_and, and_false, Nat.reduceAdd, Nat.reduceEqDiff, Nat.reduceLeDiff, Nat.reduceLT]
        rw [s0, L]
        try dsimp only
        have ep : N - 1 - (N - (mLow s + 1)) = mLow s := by omega
        rw [ep]
        rcases mZ_pick hs e hz with ⟨t, t1, t2, t3, t4⟩ | ⟨t1, t2⟩
        · rcases fo_dn (P := mPb r N s al) (R := fun t => Int32.ofNat (mLow s + 1 + t)) (e := (-1 : Int32)) (N - (mLow s + 1)) (N - (mLow s + 1)) (Nat.le_refl _) with ⟨t', u1, u2, u3, u4, u5⟩ | ⟨u1, u2⟩
          · have et : t' = t := by
              by_cases c1 : t' < t
              · rw [t3 t' c1] at u3; cases u3
              · by_cases c2 : t < t'
                · rw [u4 t (by omega) c2] at t2; cases t2
                · omega
            subst et
            rw [u5]
            try dsimp only
            have cb : s.testBit (mLow s + 1 + t') = true := by
              unfold mPb at t2
              rw [Bool.and_eq_true] at t2
              exact t2.1
            unfold mY at t4
            rw [if_pos cb] at t4
            have q7 := mbit_lt hs cb
            have xb : (mX s (mLow s)).testBit (mLow s + 1 + t') = true := by
              rw [mX_bit, cb, decide_eq_false (by omega)]
              rfl
            obtain ⟨y1, y2⟩ := mX2 hs e cb
            have xr2 := sb_r _ (show mX s (mLow s) < 128 by omega) _ q7 xb
            obtain ⟨J', e4, f1, f2⟩ := ih (mX (mX s (mLow s)) (mLow s + 1 + t')) al _ v _ g (up1 (up1 J 1257 (mLow s) (Int32.ofNat (mLow s + 1 + t'))) 1257 (mLow s + 1 + t') (Int32.ofNat (mLow s))) .null .null .null .null .null (by omega) (by omega) (by omega) (by
              intro q hq
              rw [mX_bit, mX_bit] at hq
              by_cases z1 : mLow s = q
              · rw [← z1]; exact l3
              · by_cases z2 : mLow s + 1 + t' = q
                · rw [← z2]; exact hb _ cb
                · rw [decide_eq_false z1, decide_eq_false z2] at hq
                  exact hb q (by simpa using hq)) ha (fun b b1 b2 => by rw [up1_nc _ _ _ b2, up1_nc _ _ _ b2]; exact hF b b1 b2) (fun s' h1 al' h2 => by rw [up1_nc _ _ _ (by omega), up1_nc _ _ _ (by omega)]; exact hT s' h1 al' h2) (by
              intro j hj
              unfold rw1
              by_cases z1 : j = mLow s + 1 + t'
              · rw [if_pos z1, z1, up1_eq]
              · rw [if_neg z1, up1_nj _ _ z1]
                by_cases z2 : j = mLow s
                · rw [if_pos z2, z2, up1_eq]
                · rw [if_neg z2, up1_nj _ _ z2]; exact hf j hj) t4
            refine ⟨J', ?_, f1, f2⟩
            rw [← e4, s248_125]
            simp (disch := first | omega | assumption) only [hm.t, m_r46 hm, m_t46 hm, m_l46 hm, m_r47 hm, m_t47 hm, m_l47 hm, Nat.le_refl, s248_236, xr2, s248_256, gT_wI, gR_wI, gL_wI, gS_wI, gU_wI, gI_wI, gJ_wI, gI_wJ, gJ_wJ, gR_wJ, gT_wJ, gL_wJ, gS_wJ, gU_wJ, gI_wR, gJ_wR, gR_wR, gT_wR, gL_wR, gS_wR, gU_wR, wI_wI, wJ_wJ, wR_wR, j_s, j_add, j_addL, j_addR, j_mulL, j_mulR, j_cl, j_clL, j_neg, j_negL, j_nn, j_lt, j_le, j_eq, j_ltL, j_ltR, j_leL, j_leR, j_eqL, j_eqR, j_m1, j_m1L, j_m1R, j_eqLL, j_ltLL, j_leLL, n_le0, n_le1, n_lt0, n_lt1, gc_v, gc_n, ↓reduceIte, and_true, true_and, and_self, or_self, or_false, false_or, not_false_eq_true, not_true_eq_false, false_and, and_false, Nat.reduceAdd, Nat.reduceEqDiff, Nat.reduceLeDiff, Nat.reduceLT]
          · rw [u1 t (by omega) t1] at t2; cases t2
        · have ue : fo (fun i x => if mPb r N s al (N - (mLow s + 1) - 1 - i) = true then Int32.ofNat (mLow s + 1 + (N - (mLow s + 1) - 1 - i)) else x) (N - (mLow s + 1)) (-1) = -1 := by
            rcases fo_dn (P := mPb r N s al) (R := fun t => Int32.ofNat (mLow s + 1 + t)) (e := (-1 : Int32)) (N - (mLow s + 1)) (N - (mLow s + 1)) (Nat.le_refl _) with ⟨t', u1, u2, u3, u4, u5⟩ | ⟨u1, u2⟩
            · rw [t1 t' u2] at u3; cases u3
            · exact u2
          rw [ue]
          unfold mA at t2
          split at t2
          next ca =>
            obtain ⟨J', e4, f1, f2⟩ := ih (mX s (mLow s)) 0 _ v _ g (up1 J 1257 (mLow s) (-1)) .null .null .null .null .null (by omega) (by omega) (by omega) (by
              intro q hq
              rw [mX_bit] at hq
              by_cases z1 : mLow s = q
              · rw [← z1]; exact l3
              · rw [decide_eq_false z1] at hq
                exact hb q (by simpa using hq)) (by omega) (fun b b1 b2 => by rw [up1_nc _ _ _ b2]; exact hF b b1 b2) (fun s' h1 al' h2 => by rw [up1_nc _ _ _ (by omega)]; exact hT s' h1 al' h2) (by
              intro j hj
              unfold rw1
              by_cases z2 : j = mLow s
              · rw [if_pos z2, z2, up1_eq]
              · rw [if_neg z2, up1_nj _ _ z2]; exact hf j hj) t2
            refine ⟨J', ?_, f1, f2⟩
            have e4' : go gd_P0 d 248 94 [.ref 1231, .int (Int32.ofNat (mX s (mLow s))), .int 0, .int v3, .null, .null, .null, .null, .null] [] (wI h (up1 J 1257 (mLow s) (-1))) = _ := e4
            rw [← e4', s248_125]
            simp (disch := first | omega | assumption) only [hm.t, m_r46 hm, m_t46 hm, m_l46 hm, m_r47 hm, m_t47 hm, m_l47 hm, Nat.le_refl, s248_236, s248_256, gT_wI, gR_wI, gL_wI, gS_wI, gU_wI, gI_wI, gJ_wI, gI_wJ, gJ_wJ, gR_wJ, gT_wJ, gL_wJ, gS_wJ, gU_wJ, gI_wR, gJ_wR, gR_wR, gT_wR, gL_wR, gS_wR, gU_wR, wI_wI, wJ_wJ, wR_wR, j_s, j_add, j_addL, j_addR, j_mulL, j_mulR, j_cl, j_clL, j_neg, j_negL, j_nn, j_lt, j_le, j_eq, j_ltL, j_ltR, j_leL, j_leR, j_eqL, j_eqR, j_m1, j_m1L, j_m1R, j_eqLL, j_ltLL, j_leLL, n_le0, n_le1, n_lt0, n_lt1, gc_v, gc_n, ↓reduceIte, and_true, true_and, and_self, or_self, or_false, false_or, not_false_eq_true, not_true_eq_false, false_and, and_false, Nat.reduceAdd, Nat.reduceEqDiff, Nat.reduceLeDiff, Nat.reduceLT]
          next => cases t2
      · intro i hi x
        try dsimp only
        obtain ⟨t, et⟩ : ∃ t, N - (mLow s + 1) - 1 - i = t := ⟨_, rfl⟩
        have eq1 : N - 1 - i = mLow s + t + 1 := by omega
        have eq2 : N - 1 - (i + 1) = mLow s + t := by omega
        have eq3 : mLow s + t + 1 = mLow s + 1 + t := by omega
        rw [et, eq1, eq2]
        have nx : ∀ x w, go gd_P0 d 248 201 [.ref 1231, .int (Int32.ofNat s), .int (Int32.ofNat al), .int v3, .int (Int32.ofNat (mLow s)), .int (Int32.ofNat (mX s (mLow s))), .int x, .int (Int32.ofNat (mLow s + 1 + t)), w] [] (wI h J) = go gd_P0 d 248 125 [.ref 1231, .int (Int32.ofNat s), .int (Int32.ofNat al), .int v3, .int (Int32.ofNat (mLow s)), .int (Int32.ofNat (mX s (mLow s))), .int x, .int (Int32.ofNat (mLow s + t)), .null] [] (wI h J) := by
          intro x w
          rw [← eq3, s248_201, j_dec]
        rw [eq3, s248_125]
        have q7 : mLow s + 1 + t < 7 := by omega
        have xb : (mX s (mLow s)).testBit (mLow s + 1 + t) = s.testBit (mLow s + 1 + t) := by
          rw [mX_bit, decide_eq_false (by omega)]
          exact Bool.xor_false _
        have sq := sb_q (s := mX s (mLow s)) (by omega) q7
        rw [xb] at sq
        have np : ¬ mLow s + 1 + t ≤ mLow s := by omega
        by_cases cb : s.testBit (mLow s + 1 + t) = true
        · obtain ⟨u1, u2⟩ := mX2 hs e cb
          have xr2 := sb_r _ (show mX s (mLow s) < 128 by omega) _ q7 (by rw [xb]; exact cb)
          rw [cb] at sq
          have sq2 : ((Int32.ofNat (mX s (mLow s)) >>> (Int32.ofNat (mLow s + 1 + t) &&& 31)) &&& 1 = 0) = False := sq.trans (eq_false (by decide))
          have T1 := hT _ (show mX (mX s (mLow s)) (mLow s + 1 + t) < 2 ^ N by omega) al ha
          have ix := ix_t al ha _ (show mX (mX s (mLow s)) (mLow s + 1 + t) < 128 by omega)
          have e251 := sp251 hms i72 hr (d := d) (by omega) l1 q7
          cases hc : mC r N (mX (mX s (mLow s)) (mLow s + 1 + t)) al with
          | none =>
            have T2 : J 1256 (128 * al + mX (mX s (mLow s)) (mLow s + 1 + t)) = -1 := by rw [T1, hc]; rfl
            have pf : mPb r N s al t = false := Bool.eq_false_iff.mpr (fun z => by
              unfold mPb at z
              rw [cb, hc, Bool.true_and] at z
              exact (of_decide_eq_true z).1 rfl)
            simp (disch := first | omega | assumption) only [hm.t, m_r46 hm, m_t46 hm, m_l46 hm, m_r47 hm, m_t47 hm, m_l47 hm, np, sq2, xr2, ix, T2, nx, pf, Bool.false_eq_true, gT_wI, gR_wI, gL_wI, gS_wI, gU_wI, gI_wI, gJ_wI, gI_wJ, gJ_wJ, gR_wJ, gT_wJ, gL_wJ, gS_wJ, gU_wJ, gI_wR, gJ_wR, gR_wR, gT_wR, gL_wR, gS_wR, gU_wR, wI_wI, wJ_wJ, wR_wR, j_s, j_add, j_addL, j_addR, j_mulL, j_mulR, j_cl, j_clL, j_neg, j_negL, j_nn, j_lt, j_le, j_eq, j_ltL, j_ltR, j_leL, j_leR, j_eqL, j_eqR, j_m1, j_m1L, j_m1R, j_eqLL, j_ltLL, j_leLL, n_le0, n_le1, n_lt0, n_lt1, gc_v, gc_n, ↓reduceIte, and_true, true_and, and_self, or_self, or_false, false_or, not_false_eq_true, not_true_eq_false, false_and, and_false, Nat.reduceAdd, Nat.reduceEqDiff, Nat.reduceLeDiff, Nat.reduceLT]
          | some w =>
            have T2 : J 1256 (128 * al + mX (mX s (mLow s)) (mLow s + 1 + t)) = Int32.ofNat w := by rw [T1, hc]; rfl
            have wl := mC_le hr 128 _ al (by omega) (by omega) w hc
            have md := mDis_le hr l1 q7
            by_cases ce : w + mDis r (mLow s) (mLow s + 1 + t) = T
            · have pt : mPb r N s al t = true := by
                unfold mPb
                rw [cb, hc, hTt, Bool.true_and]
                exact decide_eq_true ⟨fun z => (by cases z), congrArg some (show mDis r (mLow s) (mLow s + 1 + t) + w = T by omega)⟩
              simp (disch := first | omega | assumption) only [hm.t, m_r46 hm, m_t46 hm, m_l46 hm, m_r47 hm, m_t47 hm, m_l47 hm, np, sq2, xr2, ix, ixs, T2, TT, e251, s248_182, ce, nx, pt, gT_wI, gR_wI, gL_wI, gS_wI, gU_wI, gI_wI, gJ_wI, gI_wJ, gJ_wJ, gR_wJ, gT_wJ, gL_wJ, gS_wJ, gU_wJ, gI_wR, gJ_wR, gR_wR, gT_wR, gL_wR, gS_wR, gU_wR, wI_wI, wJ_wJ, wR_wR, j_s, j_add, j_addL, j_addR, j_mulL, j_mulR, j_cl, j_clL, j_neg, j_negL, j_nn, j_lt, j_le, j_eq, j_ltL, j_ltR, j_leL, j_leR, j_eqL, j_eqR, j_m1, j_m1L, j_m1R, j_eqLL, j_ltLL, j_leLL, n_le0, n_le1, n_lt0, n_lt1, gc_v, gc_n, ↓reduceIte, and_true, true_and, and_self, or_self, or_false, false_or, not_false_eq_true, not_true_eq_false, false_and, and_false, Nat.reduceAdd, Nat.reduceEqDiff, Nat.reduceLeDiff, Nat.reduceLT]
            · have pf : mPb r N s al t = false := Bool.eq_false_iff.mpr (fun z => by
                unfold mPb at z
                rw [cb, hc, hTt, Bool.true_and] at z
                have z2 : some (mDis r (mLow s) (mLow s + 1 + t) + w) = some T := (of_decide_eq_true z).2
                injection z2 with z2
                omega)
              simp (disch := first | omega | assumption) only [hm.t, m_r46 hm, m_t46 hm, m_l46 hm, m_r47 hm, m_t47 hm, m_l47 hm, np, sq2, xr2, ix, ixs, T2, TT, e251, s248_182, ce, nx, pf, Bool.false_eq_true, gT_wI, gR_wI, gL_wI, gS_wI, gU_wI, gI_wI, gJ_wI, gI_wJ, gJ_wJ, gR_wJ, gT_wJ, gL_wJ, gS_wJ, gU_wJ, gI_wR, gJ_wR, gR_wR, gT_wR, gL_wR, gS_wR, gU_wR, wI_wI, wJ_wJ, wR_wR, j_s, j_add, j_addL, j_addR, j_mulL, j_mulR, j_cl, j_clL, j_neg, j_negL, j_nn, j_lt, j_le, j_eq, j_ltL, j_ltR, j_leL, j_leR, j_eqL, j_eqR, j_m1, j_m1L, j_m1R, j_eqLL, j_ltLL, j_leLL, n_le0, n_le1, n_lt0, n_lt1, gc_v, gc_n, ↓reduceIte, and_true, true_and, and_self, or_self, or_false, false_or, not_false_eq_true, not_true_eq_false, false_and, and_false, Nat.reduceAdd, Nat.reduceEqDiff, Nat.reduceLeDiff, Nat.reduceLT]
        · have cb' : s.testBit (mLow s + 1 + t) = false := Bool.eq_false_iff.mpr cb
          rw [cb'] at sq
          have sq2 : ((Int32.ofNat (mX s (mLow s)) >>> (Int32.ofNat (mLow s + 1 + t) &&& 31)) &&& 1 = 0) = True := sq.trans (eq_true rfl)
          have pf : mPb r N s al t = false := by
            unfold mPb
            rw [cb', Bool.false_and]
          simp (disch := first | omega | assumption) only [hm.t, m_r46 hm, m_t46 hm, m_l46 hm, m_r47 hm, m_t47 hm, m_l47 hm, np, sq2, nx, pf, Bool.false_eq_true, gT_wI, gR_wI, gL_wI, gS_wI, gU_wI, gI_wI, gJ_wI, gI_wJ, gJ_wJ, gR_wJ, gT_wJ, gL_wJ, gS_wJ, gU_wJ, gI_wR, gJ_wR, gR_wR, gT_wR, gL_wR, gS_wR, gU_wR, wI_wI, wJ_wJ, wR_wR, j_s, j_add, j_addL, j_addR, j_mulL, j_mulR, j_cl, j_clL, j_neg, j_negL, j_nn, j_lt, j_le, j_eq, j_ltL, j_ltR, j_leL, j_leR, j_eqL, j_eqR, j_m1, j_m1L, j_m1R, j_eqLL, j_ltLL, j_leLL, n_le0, n_le1, n_lt0, n_lt1, gc_v, gc_n, ↓reduceIte, and_true, true_and, and_self, or_self, or_false, false_or, not_false_eq_true, not_true_eq_false, false_and, and_false, Nat.reduceAdd, Nat.reduceEqDiff, Nat.reduceLeDiff, Nat.reduceLT]
theorem sp248 {h : gd_H} {D : gdD} (hi : MI h D) (hD : DI D) {d : Nat} (hd : 8 ≤ d) : ∃ J, run gd_P0 d 248 [.ref 1231] h = some (.inl (some (.int (vMates D))), wI h J) ∧ mFr h J ∧ ∀ j, j < 7 → J 1257 j = vMate D j := by
  obtain ⟨d, rfl⟩ : ∃ e, d = e + 1 := ⟨d - 1, by omega⟩
  obtain ⟨m, hm4, hR⟩ := hD.2.1 (dW D) (Nat.le_refl _)
  obtain ⟨hm, ⟨hB, hN⟩, ⟨iB, iN, iA⟩, -, -, -, i7, -⟩ := id hi
  have hr := hR.2.2.2.1
  have hr2 := hR.2.2.2.2.2.2.2.1
  obtain ⟨v, g, ev⟩ := vMz_some D hN
  obtain ⟨t1, t2, t3⟩ := mS0_p D hN
  have p1 := mPar_1 _ t2
  obtain ⟨J, w, e1, hF, hT⟩ := sp248t hm iN hN i7 hr (d := d) (by omega)
  have pN : 2 ^ eN (dE D) ≤ 2 ^ 7 := Nat.pow_le_pow_right (by omega) (by omega)
  have sl := shl_n (eN (dE D)) (by omega)
  have q1 : ∀ (J : Nat → Nat → Int32), mFr h J → J 1231 21 = Int32.ofNat (eN (dE D)) ∧ ∀ j, j < 50 → J 1250 j = dNow D j := by
    intro J hJ
    refine ⟨?_, fun j hj => ?_⟩
    · rw [hJ 1231 (by omega) (by omega)]; exact iN
    · rw [hJ 1250 (by omega) (by omega)]; exact i7 j hj
  obtain ⟨iN2, i72⟩ := q1 J hF
  have e252 := sp252 (h := wI h J) (r := dNow D) hm iN2 hN i72 hr2 (d := d) (by omega)
  have e252' : run gd_P0 d 252 [.ref 1231] (wI h J) = some (.inl (some (.int (pThere (dE D) (dNow D)))), wI h J) := e252
  rw [t1] at e252'
  have e253 := sp253 (h := wI h J) (d := d) (by omega) t2
  have ix := ix_t (mPar (mS0 D)) p1 _ t2
  have s2N : mS0 D < 2 ^ eN (dE D) := by
    obtain ⟨s, h1, h2⟩ := pBits_n (fun p => decide (dNow D (35 + p) = 1)) (eN (dE D)) hN
    have h1' : pThere (dE D) (dNow D) = Int32.ofNat s := h1
    unfold mS0
    rw [h1', j_cl (by omega)]
    exact h2
  have Tv : J 1256 (128 * mPar (mS0 D) + mS0 D) = vMates D := by
    have ec : o1 (vMz D) = oad 0 (mC (dNow D) (eN (dE D)) (mS0 D) (mPar (mS0 D))) := mZ_c ..
    rw [hT _ s2N _ p1]
    unfold vMates
    rw [ec, oad_0]
  have L := lp_e (fun i K => go gd_P0 d 248 73 [.ref 1231, .int (Int32.ofNat (mS0 D)), .int (Int32.ofNat (mPar (mS0 D))), .int (vMates D), .int (Int32.ofNat i), .null, .null, .null, .null] [] (wI h K)) (fun i K => mFr h K ∧ mTb K (dNow D) (eN (dE D)) (2 ^ eN (dE D)) ∧ ∀ j, j < i → K 1257 j = -1) 7 J ⟨hF, hT, fun j hj => absurd hj (Nat.not_lt_zero j)⟩ ?_
  · obtain ⟨K, e2, k1, k2, k3⟩ := L
    obtain ⟨J', e3, f1, f2⟩ := sp248w hm iN hN i7 hr (d := d) (by omega) (vMates D) 128 (mS0 D) (mPar (mS0 D)) 0 v (fun _ => -1) g K (.int (Int32.ofNat 7)) .null .null .null .null (by omega) t2 s2N t3 p1 k1 k2 k3 ev
    refine ⟨J', ?_, f1, fun j hj => ?_⟩
    · rw [r248, s248_0, e1, s248_2]
      simp (disch := first | omega | assumption) only [hm.t, m_r46 hm, m_t46 hm, m_l46 hm, m_r47 hm, m_t47 hm, m_l47 hm, iN2, sl, Nat.le_refl, e252', s248_52, e253, s248_57, ix, Tv, gT_wI, gR_wI, gL_wI, gS_wI, gU_wI, gI_wI, gJ_wI, gI_wJ, gJ_wJ, gR_wJ, gT_wJ, gL_wJ, gS_wJ, gU_wJ, gI_wR, gJ_wR, gR_wR, gT_wR, gL_wR, gS_wR, gU_wR, wI_wI, wJ_wJ, wR_wR, j_s, j_add, j_addL, j_addR, j_mulL, j_mulR, j_cl, j_clL, j_neg, j_negL, j_nn, j_lt, j_le, j_eq, j_ltL, j_ltR, j_leL, j_leR, j_eqL, j_eqR, j_m1, j_m1L, j_m1R, j_eqLL, j_ltLL, j_leLL, n_le0, n_le1, n_lt0, n_lt1, gc_v, gc_n, ↓reduceIte, and_true, true_and, and_self, or_self, or_false, false_or, not_false_eq_true, not_true_eq_false, false_and, and_false, Nat.reduceAdd, Nat.reduceEqDiff, Nat.reduceLeDiff, Nat.reduceLT]
      have e2' : go gd_P0 d 248 73 [.ref 1231, .int (Int32.ofNat (mS0 D)), .int (Int32.ofNat (mPar (mS0 D))), .int (vMates D), .int 0, .null, .null, .null, .null] [] (wI h J) = _ := e2
      rw [e2', s248_73, if_pos (by decide)]
      exact e3
    · unfold vMate
      rw [ev]
      exact f2 j hj
  · intro i hi7 K ⟨k1, k2, k3⟩
    try dsimp only
    have c7 : ¬ (7 : Int32) ≤ Int32.ofNat i := by
      rw [j_leL (by omega) (by omega)]; omega
    refine ⟨up1 K 1257 i (-1), ?_, fun b b1 b2 => by rw [up1_nc _ _ _ b2]; exact k1 b b1 b2, fun s' h1 al' h2 => by rw [up1_nc _ _ _ (by omega)]; exact k2 s' h1 al' h2, fun j hj => ?_⟩
    · rw [s248_73]
      simp (disch := first | omega | assumption) only [hm.t, m_r46 hm, m_t46 hm, m_l46 hm, m_r47 hm, m_t47 hm, m_l47 hm, c7, gT_wI, gR_wI, gL_wI, gS_wI, gU_wI, gI_wI, gJ_wI, gI_wJ, gJ_wJ, gR_wJ, gT_wJ, gL_wJ, gS_wJ, gU_wJ, gI_wR, gJ_wR, gR_wR, gT_wR, gL_wR, gS_wR, gU_wR, wI_wI, wJ_wJ, wR_wR, j_s, j_add, j_addL, j_addR, j_mulL, j_mulR, j_cl, j_clL, j_neg, j_negL, j_nn, j_lt, j_le, j_eq, j_ltL, j_ltR, j_leL, j_leR, j_eqL, j_eqR, j_m1, j_m1L, j_m1R, j_eqLL, j_ltLL, j_leLL, n_le0, n_le1, n_lt0, n_lt1, gc_v, gc_n, ↓reduceIte, and_true, true_and, and_self, or_self, or_false, false_or, not_false_eq_true, not_true_eq_false, false_and, and_false, Nat.reduceAdd, Nat.reduceEqDiff, Nat.reduceLeDiff, Nat.reduceLT]
    · by_cases z : j = i
      · subst z; exact up1_eq _ _ _ _
      · rw [up1_nj _ _ z]; exact k3 j (by omega)
theorem m247 {D : gdD} : MOk 247 [] D (.int (vMates D)) := by
  intro d h hd hi hD
  obtain ⟨d, rfl⟩ : ∃ e, d = e + 1 := ⟨d - 1, by omega⟩
  obtain ⟨hz, ez, hiz, z0, qz⟩ := hi.z
  have hm := hi.1
  have hmz := hiz.1
  obtain ⟨J, e, f1, -⟩ := sp248 hiz hD (d := d) (by omega)
  refine ⟨wI hz J, ?_, qz.trans (MZ.i (fun b hb => f1 b (by unfold mper at hb; omega) (by unfold mper at hb; omega))), ?_⟩
  · rw [r247, s247_0]
    simp (disch := first | omega | assumption) only [hm.t, ez, e, s247_9, gT_wI, gR_wI, gL_wI, gS_wI, gU_wI, gI_wI, gJ_wI, gI_wJ, gJ_wJ, gR_wJ, gT_wJ, gL_wJ, gS_wJ, gU_wJ, gI_wR, gJ_wR, gR_wR, gT_wR, gL_wR, gS_wR, gU_wR, wI_wI, wJ_wJ, wR_wR, j_s, j_add, j_addL, j_addR, j_mulL, j_mulR, j_cl, j_clL, j_neg, j_negL, j_nn, j_lt, j_le, j_eq, j_ltL, j_ltR, j_leL, j_leR, j_eqL, j_eqR, j_m1, j_m1L, j_m1R, j_eqLL, j_ltLL, j_leLL, n_le0, n_le1, n_lt0, n_lt1, gc_v, gc_n, ↓reduceIte, and_true, true_and, and_self, or_self, or_false, false_or, not_false_eq_true, not_true_eq_false, false_and, and_false, Nat.reduceAdd, Nat.reduceEqDiff, Nat.reduceLeDiff, Nat.reduceLT]
  · rw [gI_wI, f1 1231 (by omega) (by omega)]; exact z0
theorem m254 {D : gdD} {p : Nat} (hp : p < eN (dE D)) : MOk 254 [.int (Int32.ofNat p)] D (.int (vMate D p)) := by
  intro d h hd hi hD
  obtain ⟨d, rfl⟩ : ∃ e, d = e + 1 := ⟨d - 1, by omega⟩
  obtain ⟨hz, ez, hiz, z0, qz⟩ := hi.z
  have hm := hi.1
  have hmz := hiz.1
  have e1 := sp239 hiz z0 (d := d) (by omega) hp 1
  have hN : eN (dE D) ≤ 7 := hiz.2.1.2
  obtain ⟨J, e, f1, f2⟩ := sp248 hiz hD (d := d) (by omega)
  have ej := f2 p (by omega)
  refine ⟨wI hz J, ?_, qz.trans (MZ.i (fun b hb => f1 b (by unfold mper at hb; omega) (by unfold mper at hb; omega))), ?_⟩
  · rw [r254, s254_0]
    simp only [hm.t, ez, ↓reduceIte]
    simp (disch := first | omega | assumption) only [hmz.t, m_r47 hmz, m_t47 hmz, m_l47 hmz, e1, s254_11, i10, e, s254_20, ej, gT_wI, gR_wI, gL_wI, gS_wI, gU_wI, gI_wI, gJ_wI, gI_wJ, gJ_wJ, gR_wJ, gT_wJ, gL_wJ, gS_wJ, gU_wJ, gI_wR, gJ_wR, gR_wR, gT_wR, gL_wR, gS_wR, gU_wR, wI_wI, wJ_wJ, wR_wR, j_s, j_add, j_addL, j_addR, j_mulL, j_mulR, j_cl, j_clL, j_neg, j_negL, j_nn, j_lt, j_le, j_eq, j_ltL, j_ltR, j_leL, j_leR, j_eqL, j_eqR, j_m1, j_m1L, j_m1R, j_eqLL, j_ltLL, j_leLL, n_le0, n_le1, n_lt0, n_lt1, gc_v, gc_n, ↓reduceIte, and_true, true_and, and_self, or_self, or_false, false_or, not_false_eq_true, not_true_eq_false, false_and, and_false, Nat.reduceAdd, Nat.reduceEqDiff, Nat.reduceLeDiff, Nat.reduceLT]
  · rw [gI_wI, f1 1231 (by omega) (by omega)]; exact z0
theorem m254a {D : gdD} {v : Int32} (hv : v < 0 ∨ Int32.ofNat (eN (dE D)) ≤ v) : MNo 254 [.int v] D 24 1 (.int 0) := by
  intro d h hd hi hD
  obtain ⟨d, rfl⟩ : ∃ e, d = e + 1 := ⟨d - 1, by omega⟩
  obtain ⟨hz, ez, hiz, z0, qz⟩ := hi.z
  have hm := hi.1
  have hmz := hiz.1
  have e := sp239n hiz z0 (d := d) (by omega) hv (c := 1) (by decide)
  rw [r254, s254_0]
  simp only [hm.t, ez, ↓reduceIte]
  refine Eq.trans (congrArg (gc gd_P0 d 254 _ _ _ _) e) ?_
  rw [gc_v, s254_11]
  subst ez
  rw [mthr_z]
  rw [if_pos rfl]

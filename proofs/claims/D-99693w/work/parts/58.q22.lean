/-! ===== mates: the model's parts ===== -/
set_option maxRecDepth 100000
theorem mLow_f : ∀ s, s < 128 → s ≠ 0 → ∀ q, q < 7 → q < mLow s → s.testBit q = false := by decide +kernel
theorem sp250 {h : gd_H} {d : Nat} (hd : 1 ≤ d) {s : Nat} (hs : s < 128) (h0 : s ≠ 0) : run gd_P0 d 250 [.int (Int32.ofNat s)] h = some (.inl (some (.int (Int32.ofNat (mLow s)))), h) := by
  obtain ⟨d, rfl⟩ : ∃ e, d = e + 1 := ⟨d - 1, by omega⟩
  obtain ⟨l1, l2⟩ := mLow_p s hs h0
  have L := lp_f (fun i (x : Unit) => go gd_P0 d 250 2 [.int (Int32.ofNat s), .int (Int32.ofNat i)] [] h) (fun i x => ()) (mLow s) () ?_
  · rw [r250, s250_0]
    refine Eq.trans L ?_
    try dsimp only
    have e := sb_q hs l1
    rw [l2] at e
    rw [s250_2, if_neg (by rw [e]; decide)]
  · intro i hi x
    try dsimp only
    have e := sb_q hs (show i < 7 by omega)
    rw [mLow_f s hs h0 i (by omega) hi] at e
    rw [s250_2, if_pos (by rw [e]), j_s]
theorem sp251 {h : gd_H} {r : gdR} (hm : MS h) (i7 : ∀ j, j < 50 → gI h 1250 j = r j) (hr : ∀ p, p < 7 → ∃ v, v ≤ 999 ∧ r p = Int32.ofNat v) {d : Nat} (hd : 1 ≤ d) {p q : Nat} (hp : p < 7) (hq : q < 7) : run gd_P0 d 251 [.ref 1231, .int (Int32.ofNat p), .int (Int32.ofNat q)] h = some (.inl (some (.int (Int32.ofNat (mDis r p q)))), h) := by
  obtain ⟨d, rfl⟩ : ∃ e, d = e + 1 := ⟨d - 1, by omega⟩
  obtain ⟨x, x1, x2⟩ := hr p hp
  obtain ⟨y, y1, y2⟩ := hr q hq
  have ex := (i7 p (by omega)).trans x2
  have ey := (i7 q (by omega)).trans y2
  unfold mDis
  rw [x2, y2, j_cl (by omega), j_cl (by omega), r251, s251_0]
  by_cases c : x ≤ y
  · have e1 : Int32.ofNat y - Int32.ofNat x = Int32.ofNat (y - x) := j_sub c
    simp (disch := first | omega | assumption) only [hm.t, m_r38 hm, m_t38 hm, m_l38 hm, ex, ey, c, e1, Nat.zero_add, s251_56, gT_wI, gR_wI, gL_wI, gS_wI, gU_wI, gI_wI, gJ_wI, gI_wJ, gJ_wJ, gR_wJ, gT_wJ, gL_wJ, gS_wJ, gU_wJ, gI_wR, gJ_wR, gR_wR, gT_wR, gL_wR, gS_wR, gU_wR, wI_wI, wJ_wJ, wR_wR, j_s, j_add, j_addL, j_addR, j_mulL, j_mulR, j_cl, j_clL, j_neg, j_negL, j_nn, j_lt, j_le, j_eq, j_ltL, j_ltR, j_leL, j_leR, j_eqL, j_eqR, j_m1, j_m1L, j_m1R, j_eqLL, j_ltLL, j_leLL, n_le0, n_le1, n_lt0, n_lt1, gc_v, gc_n, ↓reduceIte, and_true, true_and, and_self, or_self, or_false, false_or, not_false_eq_true, not_true_eq_false, false_and, and_false, Nat.reduceAdd, Nat.reduceEqDiff, Nat.reduceLeDiff, Nat.reduceLT]
    rw [show x - y = 0 by omega, Nat.zero_add]
  · have e1 : Int32.ofNat x - Int32.ofNat y = Int32.ofNat (x - y) := j_sub (by omega)
    simp (disch := first | omega | assumption) only [hm.t, m_r38 hm, m_t38 hm, m_l38 hm, ex, ey, c, e1, Nat.zero_add, s251_56, gT_wI, gR_wI, gL_wI, gS_wI, gU_wI, gI_wI, gJ_wI, gI_wJ, gJ_wJ, gR_wJ, gT_wJ, gL_wJ, gS_wJ, gU_wJ, gI_wR, gJ_wR, gR_wR, gT_wR, gL_wR, gS_wR, gU_wR, wI_wI, wJ_wJ, wR_wR, j_s, j_add, j_addL, j_addR, j_mulL, j_mulR, j_cl, j_clL, j_neg, j_negL, j_nn, j_lt, j_le, j_eq, j_ltL, j_ltR, j_leL, j_leR, j_eqL, j_eqR, j_m1, j_m1L, j_m1R, j_eqLL, j_ltLL, j_leLL, n_le0, n_le1, n_lt0, n_lt1, gc_v, gc_n, ↓reduceIte, and_true, true_and, and_self, or_self, or_false, false_or, not_false_eq_true, not_true_eq_false, false_and, and_false, Nat.reduceAdd, Nat.reduceEqDiff, Nat.reduceLeDiff, Nat.reduceLT]
    rw [show y - x = 0 by omega, Nat.add_zero]
theorem shl_0 : ∀ p, p < 7 → (0 : Int32) <<< (Int32.ofNat p &&& 31) = 0 := by decide +kernel
theorem sp252 {h : gd_H} {r : gdR} {N : Nat} (hm : MS h) (iN : gI h 1231 21 = Int32.ofNat N) (hN : N ≤ 7) (i7 : ∀ j, j < 50 → gI h 1250 j = r j) (hr : ∀ p, p < 7 → r (35 + p) = 0 ∨ r (35 + p) = 1) {d : Nat} (hd : 1 ≤ d) : run gd_P0 d 252 [.ref 1231] h = some (.inl (some (.int (pBits (fun p => decide (r (35 + p) = 1)) N))), h) := by
  obtain ⟨d, rfl⟩ : ∃ e, d = e + 1 := ⟨d - 1, by omega⟩
  rw [r252, s252_0]
  have L := lp_f (fun i x => go gd_P0 d 252 4 [.ref 1231, .int x, .int (Int32.ofNat i)] [] h) (fun p b => if decide (r (35 + p) = 1) = true then b ||| ((1 : Int32) <<< (Int32.ofNat p &&& 31)) else b) N 0 ?_
  · refine Eq.trans L ?_
    try dsimp only
    rw [s252_4]
    simp (disch := first | omega | assumption) only [hm.t, m_r38 hm, m_t38 hm, m_l38 hm, iN, Nat.le_refl, gT_wI, gR_wI, gL_wI, gS_wI, gU_wI, gI_wI, gJ_wI, gI_wJ, gJ_wJ, gR_wJ, gT_wJ, gL_wJ, gS_wJ, gU_wJ, gI_wR, gJ_wR, gR_wR, gT_wR, gL_wR, gS_wR, gU_wR, wI_wI, wJ_wJ, wR_wR, j_s, j_add, j_addL, j_addR, j_mulL, j_mulR, j_cl, j_clL, j_neg, j_negL, j_nn, j_lt, j_le, j_eq, j_ltL, j_ltR, j_leL, j_leR, j_eqL, j_eqR, j_m1, j_m1L, j_m1R, j_eqLL, j_ltLL, j_leLL, n_le0, n_le1, n_lt0, n_lt1, gc_v, gc_n, ↓reduceIte, and_true, true_and, and_self, or_self, or_false, false_or, not_false_eq_true, not_true_eq_false, false_and, and_false, Nat.reduceAdd, Nat.reduceEqDiff, Nat.reduceLeDiff, Nat.reduceLT]
    rfl
  · intro p hp x
    try dsimp only
    have e := i7 (35 + p) (by omega)
    have z := shl_0 p (by omega)
    rw [s252_4]
    rcases hr p (by omega) with c | c
    · have c1 : ¬ (0 : Int32) = 1 := by decide
      simp (disch := first | omega | assumption) only [hm.t, m_r38 hm, m_t38 hm, m_l38 hm, iN, e, c, c1, z, decide_true, decide_false, Bool.not_true, Bool.not_false, Bool.false_eq_true, Bool.true_and, Bool.false_and, Bool.and_true, Bool.and_false, Int32.or_zero, gT_wI, gR_wI, gL_wI, gS_wI, gU_wI, gI_wI, gJ_wI, gI_wJ, gJ_wJ, gR_wJ, gT_wJ, gL_wJ, gS_wJ, gU_wJ, gI_wR, gJ_wR, gR_wR, gT_wR, gL_wR, gS_wR, gU_wR, wI_wI, wJ_wJ, wR_wR, j_s, j_add, j_addL, j_addR, j_mulL, j_mulR, j_cl, j_clL, j_neg, j_negL, j_nn, j_lt, j_le, j_eq, j_ltL, j_ltR, j_leL, j_leR, j_eqL, j_eqR, j_m1, j_m1L, j_m1R, j_eqLL, j_ltLL, j_leLL, n_le0, n_le1, n_lt0, n_lt1, gc_v, gc_n, ↓reduceIte, and_true, true_and, and_self, or_self, or_false, false_or, not_false_eq_true, not_true_eq_false, false_and, and_false, Nat.reduceAdd, Nat.reduceEqDiff, Nat.reduceLeDiff, Nat.reduceLT]
    · simp (disch := first | omega | assumption) only [hm.t, m_r38 hm, m_t38 hm, m_l38 hm, iN, e, c, decide_true, decide_false, Bool.not_true, Bool.not_false, Bool.false_eq_true, Bool.true_and, Bool.false_and, Bool.and_true, Bool.and_false, Int32.or_zero, gT_wI, gR_wI, gL_wI, gS_wI, gU_wI, gI_wI, gJ_wI, gI_wJ, gJ_wJ, gR_wJ, gT_wJ, gL_wJ, gS_wJ, gU_wJ, gI_wR, gJ_wR, gR_wR, gT_wR, gL_wR, gS_wR, gU_wR, wI_wI, wJ_wJ, wR_wR, j_s, j_add, j_addL, j_addR, j_mulL, j_mulR, j_cl, j_clL, j_neg, j_negL, j_nn, j_lt, j_le, j_eq, j_ltL, j_ltR, j_leL, j_leR, j_eqL, j_eqR, j_m1, j_m1L, j_m1R, j_eqLL, j_ltLL, j_leLL, n_le0, n_le1, n_lt0, n_lt1, gc_v, gc_n, ↓reduceIte, and_true, true_and, and_self, or_self, or_false, false_or, not_false_eq_true, not_true_eq_false, false_and, and_false, Nat.reduceAdd, Nat.reduceEqDiff, Nat.reduceLeDiff, Nat.reduceLT]
theorem par_c : ∀ s, s < 128 → (fo (fun p x => x + ((Int32.ofNat s >>> (Int32.ofNat p &&& 31)) &&& 1)) 7 (0 : Int32)) - (fo (fun p x => x + ((Int32.ofNat s >>> (Int32.ofNat p &&& 31)) &&& 1)) 7 (0 : Int32)) / 2 * 2 = Int32.ofNat (mPar s) := by decide +kernel
theorem sp253 {h : gd_H} {d : Nat} (hd : 1 ≤ d) {s : Nat} (hs : s < 128) : run gd_P0 d 253 [.int (Int32.ofNat s)] h = some (.inl (some (.int (Int32.ofNat (mPar s)))), h) := by
  obtain ⟨d, rfl⟩ : ∃ e, d = e + 1 := ⟨d - 1, by omega⟩
  rw [r253, s253_0]
  have L := lp_f (fun i x => go gd_P0 d 253 4 [.int (Int32.ofNat s), .int x, .int (Int32.ofNat i)] [] h) (fun p x => x + ((Int32.ofNat s >>> (Int32.ofNat p &&& 31)) &&& 1)) 7 0 ?_
  · refine Eq.trans L ?_
    try dsimp only
    rw [s253_4, if_pos (by decide), par_c s hs]
  · intro p hp x
    try dsimp only
    rw [s253_4, if_neg (by rw [j_leL (by omega) (by omega)]; omega), j_s]
theorem fo_omn_i {b : Nat → Option Nat} {P : Nat → Prop} {x0 : Option Nat} (h0 : ∀ v, x0 = some v → P v) : ∀ n, (∀ t, t < n → ∀ v, b t = some v → P v) → ∀ v, fo (fun t x => omn x (b t)) n x0 = some v → P v
  | 0, _ => h0
  | n + 1, hb => by
    intro v hv
    rw [fo_s] at hv
    have ih := fo_omn_i h0 n (fun t ht => hb t (by omega))
    cases hx : fo (fun t x => omn x (b t)) n x0 with
    | none =>
      rw [hx, omn_n] at hv
      exact hb n (by omega) v hv
    | some x =>
      rw [hx] at hv
      cases hy : b n with
      | none =>
        rw [hy] at hv
        injection hv with hv
        exact ih v (by rw [hx, hv])
      | some y =>
        rw [hy] at hv
        have hv2 : (if y < x then some y else some x) = some v := hv
        split at hv2
        · injection hv2 with hv2
          exact hb n (by omega) v (by rw [hy, hv2])
        · injection hv2 with hv2
          exact ih v (by rw [hx, hv2])
theorem mDis_le {r : gdR} (hr : ∀ p, p < 7 → ∃ v, v ≤ 999 ∧ r p = Int32.ofNat v) {p q : Nat} (hp : p < 7) (hq : q < 7) : mDis r p q ≤ 999 := by
  obtain ⟨x, x1, x2⟩ := hr p hp
  obtain ⟨y, y1, y2⟩ := hr q hq
  unfold mDis
  rw [x2, y2, j_cl (by omega), j_cl (by omega)]
  omega
theorem mC_le {r : gdR} {N : Nat} (hr : ∀ p, p < 7 → ∃ v, v ≤ 999 ∧ r p = Int32.ofNat v) : ∀ k s al, s ≤ k → s < 128 → ∀ v, mC r N s al = some v → v ≤ 999 * s
  | 0, s, al, hk, hs => by
    intro v hv
    have e : s = 0 := by omega
    subst e
    rw [mC_0] at hv
    split at hv
    · injection hv with hv; omega
    · cases hv
  | k + 1, s, al, hk, hs => by
    intro v hv
    by_cases e : s = 0
    · subst e
      rw [mC_0] at hv
      split at hv
      · injection hv with hv; omega
      · cases hv
    · obtain ⟨l1, l2⟩ := mLow_p s hs e
      have x1 := mX_lt s hs _ l1 l2
      rw [mC_eq r N s al hs e] at hv
      refine fo_omn_i (P := fun v => v ≤ 999 * s) (fun v hv => ?_) _ (fun t ht v hv => ?_) v hv
      · split at hv
        · have := mC_le hr k _ 0 (by omega) (by omega) v hv
          omega
        · cases hv
      · split at hv
        next hb =>
          obtain ⟨u1, u2⟩ := mX2 hs e hb
          have q7 := mbit_lt hs hb
          have md := mDis_le hr l1 q7
          cases hc : mC r N (mX (mX s (mLow s)) (mLow s + 1 + t)) al with
          | none => rw [hc] at hv; cases hv
          | some x =>
            rw [hc] at hv
            have hv2 : some (mDis r (mLow s) (mLow s + 1 + t) + x) = some v := hv
            injection hv2 with hv2
            have := mC_le hr k _ al (by omega) (by omega) x hc
            omega
        next => cases hv
theorem ix_t : ∀ al, al ≤ 1 → ∀ s, s < 128 → (Int32.ofNat al <<< ((7 : Int32) &&& 31)) ||| Int32.ofNat s = Int32.ofNat (128 * al + s) := by decide +kernel
/-- the table below s -/
def mTb (I : Nat → Nat → Int32) (r : gdR) (N s : Nat) : Prop := ∀ s', s' < s → ∀ al, al ≤ 1 → I 1256 (128 * al + s') = oE (mC r N s' al)
theorem sp249 {h : gd_H} {r : gdR} {N : Nat} (hm : MS h) (iN : gI h 1231 21 = Int32.ofNat N) (hN : N ≤ 7) (i7 : ∀ j, j < 50 → gI h 1250 j = r j) (hr : ∀ p, p < 7 → ∃ v, v ≤ 999 ∧ r p = Int32.ofNat v) {d : Nat} (hd : 3 ≤ d) {s al : Nat} (hs : s < 128) (ha : al ≤ 1) (hT : mTb (gI h) r N s) (hb : ∀ q, s.testBit q = true → q < N) : run gd_P0 d 249 [.ref 1231, .int (Int32.ofNat s), .int (Int32.ofNat al)] h = some (.inl (some (.int (oE (mC r N s al)))), h) := by
  obtain ⟨d, rfl⟩ : ∃ e, d = e + 1 := ⟨d - 1, by omega⟩
  rw [r249, s249_0]
  by_cases e : s = 0
  · subst e
    rw [mC_0]
    rcases c02 ha with rfl | rfl
    · simp (disch := first | omega | assumption) only [s249_13, gT_wI, gR_wI, gL_wI, gS_wI, gU_wI, gI_wI, gJ_wI, gI_wJ, gJ_wJ, gR_wJ, gT_wJ, gL_wJ, gS_wJ, gU_wJ, gI_wR, gJ_wR, gR_wR, gT_wR, gL_wR, gS_wR, gU_wR, wI_wI, wJ_wJ, wR_wR, j_s, j_add, j_addL, j_addR, j_mulL, j_mulR, j_cl, j_clL, j_neg, j_negL, j_nn, j_lt, j_le, j_eq, j_ltL, j_ltR, j_leL, j_leR, j_eqL, j_eqR, j_m1, j_m1L, j_m1R, j_eqLL, j_ltLL, j_leLL, n_le0, n_le1, n_lt0, n_lt1, gc_v, gc_n, ↓reduceIte, and_true, true_and, and_self, or_self, or_false, false_or, not_false_eq_true, not_true_eq_false, false_and, and_false, Nat.reduceAdd, Nat.reduceEqDiff, Nat.reduceLeDiff, Nat.reduceLT]
      rfl
    · simp (disch := first | omega | assumption) only [s249_13, gT_wI, gR_wI, gL_wI, gS_wI, gU_wI, gI_wI, gJ_wI, gI_wJ, gJ_wJ, gR_wJ, gT_wJ, gL_wJ, gS_wJ, gU_wJ, gI_wR, gJ_wR, gR_wR, gT_wR, gL_wR, gS_wR, gU_wR, wI_wI, wJ_wJ, wR_wR, j_s, j_add, j_addL, j_addR, j_mulL, j_mulR, j_cl, j_clL, j_neg, j_negL, j_nn, j_lt, j_le, j_eq, j_ltL, j_ltR, j_leL, j_leR, j_eqL, j_eqR, j_m1, j_m1L, j_m1R, j_eqLL, j_ltLL, j_leLL, n_le0, n_le1, n_lt0, n_lt1, gc_v, gc_n, ↓reduceIte, and_true, true_and, and_self, or_self, or_false, false_or, not_false_eq_true, not_true_eq_false, false_and, and_false, Nat.reduceAdd, Nat.reduceEqDiff, Nat.reduceLeDiff, Nat.reduceLT]
      rfl
  · obtain ⟨l1, l2⟩ := mLow_p s hs e
    have x1 := mX_lt s hs _ l1 l2
    have xr := sb_r s hs _ l1 l2
    have e250 := sp250 (h := h) (d := d) (by omega) hs e
    have z : (Int32.ofNat s = 0) = False := by
      rw [show (0 : Int32) = Int32.ofNat 0 from rfl, j_eq (by omega) (by omega)]
      exact eq_false e
    have T0 := hT (mX s (mLow s)) x1 0 (by omega)
    rw [Nat.mul_zero, Nat.zero_add] at T0
    have L := lp_p (fun t (x : Option Nat) => go gd_P0 d 249 51 [.ref 1231, .null, .int (Int32.ofNat al), .int (Int32.ofNat (mLow s)), .int (Int32.ofNat (mX s (mLow s))), .int (oE x), .int (Int32.ofNat (mLow s + 1 + t)), .null, .null] [] h) (fun t x => omn x (if s.testBit (mLow s + 1 + t) = true then oad (mDis r (mLow s) (mLow s + 1 + t)) (mC r N (mX (mX s (mLow s)) (mLow s + 1 + t)) al) else none)) (fun t x => ∀ v, x = some v → v ≤ 999 * s) (N - (mLow s + 1)) (if al = 1 then mC r N (mX s (mLow s)) 0 else none) ?_ ?_
    · have s0 : ∀ v, (if al = 1 then mC r N (mX s (mLow s)) 0 else none) = v → go gd_P0 d 249 44 [.ref 1231, .int (Int32.ofNat s), .int (Int32.ofNat al), .int (Int32.ofNat (mLow s)), .int (Int32.ofNat (mX s (mLow s))), .null, .null, .null, .null] [.int (oE v)] h = some (.inl (some (.int (oE (mC r N s al)))), h) := by
        intro v hv
        subst hv
        rw [s249_44, j_s]
        refine Eq.trans ((s249_51 ..).trans (s249_51 ..).symm) (L.1.trans ?_)
        try dsimp only
        have hN2 := hb _ l2
        rw [s249_51, mC_eq r N s al hs e, show mLow s + 1 + (N - (mLow s + 1)) = N by omega]
        simp (disch := first | omega | assumption) only [hm.t, m_r46 hm, m_t46 hm, m_l46 hm, iN, Nat.le_refl, gT_wI, gR_wI, gL_wI, gS_wI, gU_wI, gI_wI, gJ_wI, gI_wJ, gJ_wJ, gR_wJ, gT_wJ, gL_wJ, gS_wJ, gU_wJ, gI_wR, gJ_wR, gR_wR, gT_wR, gL_wR, gS_wR, gU_wR, wI_wI, wJ_wJ, wR_wR, j_s, j_add, j_addL, j_addR, j_mulL, j_mulR, j_cl, j_clL, j_neg, j_negL, j_nn, j_lt, j_le, j_eq, j_ltL, j_ltR, j_leL, j_leR, j_eqL, j_eqR, j_m1, j_m1L, j_m1R, j_eqLL, j_ltLL, j_leLL, n_le0, n_le1, n_lt0, n_lt1, gc_v, gc_n, ↓reduceIte, and_true, true_and, and_self, or_self, or_false, false_or, not_false_eq_true, not_true_eq_false, false_and, and_false, Nat.reduceAdd, Nat.reduceEqDiff, Nat.reduceLeDiff, Nat.reduceLT]
      rcases c02 ha with rfl | rfl
      · have s1 := s0 none rfl
        have s2 : go gd_P0 d 249 44 [.ref 1231, .int (Int32.ofNat s), .int (Int32.ofNat 0), .int (Int32.ofNat (mLow s)), .int (Int32.ofNat (mX s (mLow s))), .null, .null, .null, .null] [.int (-1)] h = _ := s1
        simp (disch := first | omega | assumption) only [z, e250, s249_18, xr, s2, gT_wI, gR_wI, gL_wI, gS_wI, gU_wI, gI_wI, gJ_wI, gI_wJ, gJ_wJ, gR_wJ, gT_wJ, gL_wJ, gS_wJ, gU_wJ, gI_wR, gJ_wR, gR_wR, gT_wR, gL_wR, gS_wR, gU_wR, wI_wI, wJ_wJ, wR_wR, j_s, j_add, j_addL, j_addR, j_mulL, j_mulR, j_cl, j_clL, j_neg, j_negL, j_nn, j_lt, j_le, j_eq, j_ltL, j_ltR, j_leL, j_leR, j_eqL, j_eqR, j_m1, j_m1L, j_m1R, j_eqLL, j_ltLL, j_leLL, n_le0, n_le1, n_lt0, n_lt1, gc_v, gc_n, ↓reduceIte, and_true, true_and, and_self, or_self, or_false, false_or, not_false_eq_true, not_true_eq_false, false_and, and_false, Nat.reduceAdd, Nat.reduceEqDiff, Nat.reduceLeDiff, Nat.reduceLT]
      · have s1 := s0 _ rfl
        rw [if_pos rfl] at s1
        simp (disch := first | omega | assumption) only [hm.t, m_r46 hm, m_t46 hm, m_l46 hm, z, e250, s249_18, xr, T0, s1, gT_wI, gR_wI, gL_wI, gS_wI, gU_wI, gI_wI, gJ_wI, gI_wJ, gJ_wJ, gR_wJ, gT_wJ, gL_wJ, gS_wJ, gU_wJ, gI_wR, gJ_wR, gR_wR, gT_wR, gL_wR, gS_wR, gU_wR, wI_wI, wJ_wJ, wR_wR, j_s, j_add, j_addL, j_addR, j_mulL, j_mulR, j_cl, j_clL, j_neg, j_negL, j_nn, j_lt, j_le, j_eq, j_ltL, j_ltR, j_leL, j_leR, j_eqL, j_eqR, j_m1, j_m1L, j_m1R, j_eqLL, j_ltLL, j_leLL, n_le0, n_le1, n_lt0, n_lt1, gc_v, gc_n, ↓reduceIte, and_true, true_and, and_self, or_self, or_false, false_or, not_false_eq_true, not_true_eq_false, false_and, and_false, Nat.reduceAdd, Nat.reduceEqDiff, Nat.reduceLeDiff, Nat.reduceLT]
    · intro v hv
      split at hv
      · have := mC_le hr 128 _ 0 (by omega) (by omega) v hv
        omega
      · cases hv
    · intro t ht x hx
      try dsimp only
      have q7 : mLow s + 1 + t < 7 := by omega
      have xb : (mX s (mLow s)).testBit (mLow s + 1 + t) = s.testBit (mLow s + 1 + t) := by
        rw [mX_bit, decide_eq_false (by omega)]
        exact Bool.xor_false _
      have sq := sb_q (s := mX s (mLow s)) (by omega) q7
      rw [xb] at sq
      have tn9 : ∀ w5 w6 x, go gd_P0 d 249 137 [.ref 1231, .null, .int (Int32.ofNat al), .int (Int32.ofNat (mLow s)), .int (Int32.ofNat (mX s (mLow s))), .int x, .int (Int32.ofNat (mLow s + 1 + t)), w5, w6] [] h = go gd_P0 d 249 51 [.ref 1231, .null, .int (Int32.ofNat al), .int (Int32.ofNat (mLow s)), .int (Int32.ofNat (mX s (mLow s))), .int x, .int (Int32.ofNat (mLow s + 1 + (t + 1))), .null, .null] [] h := by
        intro w5 w6 x
        rw [s249_137, j_s]
        rfl
      by_cases cb : s.testBit (mLow s + 1 + t) = true
      · obtain ⟨u1, u2⟩ := mX2 hs e cb
        have xr2 := sb_r _ (show mX s (mLow s) < 128 by omega) _ q7 (by rw [xb]; exact cb)
        rw [cb] at sq
        have sq2 : ((Int32.ofNat (mX s (mLow s)) >>> (Int32.ofNat (mLow s + 1 + t) &&& 31)) &&& 1 = 0) = False := sq.trans (eq_false (by decide))
        have T1 := hT _ (show mX (mX s (mLow s)) (mLow s + 1 + t) < s by omega) al ha
        have ix := ix_t al ha _ (show mX (mX s (mLow s)) (mLow s + 1 + t) < 128 by omega)
        have md := mDis_le hr l1 q7
        have e251 := sp251 hm i7 hr (d := d) (by omega) l1 q7
        rw [if_pos cb]
        cases hc : mC r N (mX (mX s (mLow s)) (mLow s + 1 + t)) al with
        | none =>
          rw [hc] at T1
          have T2 : gI h 1256 (128 * al + mX (mX s (mLow s)) (mLow s + 1 + t)) = -1 := T1
          refine ⟨?_, fun v hv => hx v hv⟩
          rw [s249_51]
          simp (disch := first | omega | assumption) only [hm.t, m_r46 hm, m_t46 hm, m_l46 hm, iN, sq2, xr2, ix, T2, tn9, gT_wI, gR_wI, gL_wI, gS_wI, gU_wI, gI_wI, gJ_wI, gI_wJ, gJ_wJ, gR_wJ, gT_wJ, gL_wJ, gS_wJ, gU_wJ, gI_wR, gJ_wR, gR_wR, gT_wR, gL_wR, gS_wR, gU_wR, wI_wI, wJ_wJ, wR_wR, j_s, j_add, j_addL, j_addR, j_mulL, j_mulR, j_cl, j_clL, j_neg, j_negL, j_nn, j_lt, j_le, j_eq, j_ltL, j_ltR, j_leL, j_leR, j_eqL, j_eqR, j_m1, j_m1L, j_m1R, j_eqLL, j_ltLL, j_leLL, n_le0, n_le1, n_lt0, n_lt1, gc_v, gc_n, ↓reduceIte, and_true, true_and, and_self, or_self, or_false, false_or, not_false_eq_true, not_true_eq_false, false_and, and_false, Nat.reduceAdd, Nat.reduceEqDiff, Nat.reduceLeDiff, Nat.reduceLT]
          rfl
        | some w =>
          rw [hc] at T1
          have T2 : gI h 1256 (128 * al + mX (mX s (mLow s)) (mLow s + 1 + t)) = Int32.ofNat w := T1
          have wl := mC_le hr 128 _ al (by omega) (by omega) w hc
          have od : oad (mDis r (mLow s) (mLow s + 1 + t)) (some w) = some (w + mDis r (mLow s) (mLow s + 1 + t)) := congrArg some (Nat.add_comm _ _)
          rw [od]
          cases x with
          | none =>
            refine ⟨?_, fun v hv => by injection hv with hv; omega⟩
            have t3 := tn9 .null .null (Int32.ofNat (w + mDis r (mLow s) (mLow s + 1 + t)))
            rw [s249_51, show oE none = -1 from rfl]
            simp (disch := first | omega | assumption) only [hm.t, m_r46 hm, m_t46 hm, m_l46 hm, iN, sq2, xr2, ix, T2, e251, s249_112, s249_128, s249_135, t3, gT_wI, gR_wI, gL_wI, gS_wI, gU_wI, gI_wI, gJ_wI, gI_wJ, gJ_wJ, gR_wJ, gT_wJ, gL_wJ, gS_wJ, gU_wJ, gI_wR, gJ_wR, gR_wR, gT_wR, gL_wR, gS_wR, gU_wR, wI_wI, wJ_wJ, wR_wR, j_s, j_add, j_addL, j_addR, j_mulL, j_mulR, j_cl, j_clL, j_neg, j_negL, j_nn, j_lt, j_le, j_eq, j_ltL, j_ltR, j_leL, j_leR, j_eqL, j_eqR, j_m1, j_m1L, j_m1R, j_eqLL, j_ltLL, j_leLL, n_le0, n_le1, n_lt0, n_lt1, gc_v, gc_n, ↓reduceIte, and_true, true_and, and_self, or_self, or_false, false_or, not_false_eq_true, not_true_eq_false, false_and, and_false, Nat.reduceAdd, Nat.reduceEqDiff, Nat.reduceLeDiff, Nat.reduceLT]
            rfl
          | some v =>
            have vl := hx v rfl
            by_cases c : v ≤ w + mDis r (mLow s) (mLow s + 1 + t)
            · have om : omn (some v) (some (w + mDis r (mLow s) (mLow s + 1 + t))) = some v := if_neg (by omega)
              rw [om]
              refine ⟨?_, fun v hv => by injection hv with hv; omega⟩
              have t3 := tn9 .null .null (Int32.ofNat v)
              rw [s249_51, show oE (some v) = Int32.ofNat v from rfl]
              simp (disch := first | omega | assumption) only [hm.t, m_r46 hm, m_t46 hm, m_l46 hm, iN, sq2, xr2, ix, T2, e251, s249_112, c, s249_128, s249_135, t3, gT_wI, gR_wI, gL_wI, gS_wI, gU_wI, gI_wI, gJ_wI, gI_wJ, gJ_wJ, gR_wJ, gT_wJ, gL_wJ, gS_wJ, gU_wJ, gI_wR, gJ_wR, gR_wR, gT_wR, gL_wR, gS_wR, gU_wR, wI_wI, wJ_wJ, wR_wR, j_s, j_add, j_addL, j_addR, j_mulL, j_mulR, j_cl, j_clL, j_neg, j_negL, j_nn, j_lt, j_le, j_eq, j_ltL, j_ltR, j_leL, j_leR, j_eqL, j_eqR, j_m1, j_m1L, j_m1R, j_eqLL, j_ltLL, j_leLL, n_le0, n_le1, n_lt0, n_lt1, gc_v, gc_n, ↓reduceIte, and_true, true_and, and_self, or_self, or_false, false_or, not_false_eq_true, not_true_eq_false, false_and, and_false, Nat.reduceAdd, Nat.reduceEqDiff, Nat.reduceLeDiff, Nat.reduceLT]
            · have om : omn (some v) (some (w + mDis r (mLow s) (mLow s + 1 + t))) = some (w + mDis r (mLow s) (mLow s + 1 + t)) := if_pos (by omega)
              rw [om]
              refine ⟨?_, fun v hv => by injection hv with hv; omega⟩
              have t3 := tn9 .null .null (Int32.ofNat (w + mDis r (mLow s) (mLow s + 1 + t)))
              rw [s249_51, show oE (some v) = Int32.ofNat v from rfl]
              simp (disch := first | omega | assumption) only [hm.t, m_r46 hm, m_t46 hm, m_l46 hm, iN, sq2, xr2, ix, T2, e251, s249_112, c, s249_128, s249_135, t3, gT_wI, gR_wI, gL_wI, gS_wI, gU_wI, gI_wI, gJ_wI, gI_wJ, gJ_wJ, gR_wJ, gT_wJ, gL_wJ, gS_wJ, gU_wJ, gI_wR, gJ_wR, gR_wR, gT_wR, gL_wR, gS_wR, gU_wR, wI_wI, wJ_wJ, wR_wR, j_s, j_add, j_addL, j_addR, j_mulL, j_mulR, j_cl, j_clL, j_neg, j_negL, j_nn, j_lt, j_le, j_eq, j_ltL, j_ltR, j_leL, j_leR, j_eqL, j_eqR, j_m1, j_m1L, j_m1R, j_eqLL, j_ltLL, j_leLL, n_le0, n_le1, n_lt0, n_lt1, gc_v, gc_n, ↓reduceIte, and_true, true_and, and_self, or_self, or_false, false_or, not_false_eq_true, not_true_eq_false, false_and, and_false, Nat.reduceAdd, Nat.reduceEqDiff, Nat.reduceLeDiff, Nat.reduceLT]
              rfl
      · have cb' : s.testBit (mLow s + 1 + t) = false := Bool.eq_false_iff.mpr cb
        rw [cb'] at sq
        have sq2 : ((Int32.ofNat (mX s (mLow s)) >>> (Int32.ofNat (mLow s + 1 + t) &&& 31)) &&& 1 = 0) = True := sq.trans (eq_true rfl)
        rw [if_neg cb]
        refine ⟨?_, fun v hv => hx v hv⟩
        rw [s249_51]
        simp (disch := first | omega | assumption) only [hm.t, m_r46 hm, m_t46 hm, m_l46 hm, iN, sq2, tn9, gT_wI, gR_wI, gL_wI, gS_wI, gU_wI, gI_wI, gJ_wI, gI_wJ, gJ_wJ, gR_wJ, gT_wJ, gL_wJ, gS_wJ, gU_wJ, gI_wR, gJ_wR, gR_wR, gT_wR, gL_wR, gS_wR, gU_wR, wI_wI, wJ_wJ, wR_wR, j_s, j_add, j_addL, j_addR, j_mulL, j_mulR, j_cl, j_clL, j_neg, j_negL, j_nn, j_lt, j_le, j_eq, j_ltL, j_ltR, j_leL, j_leR, j_eqL, j_eqR, j_m1, j_m1L, j_m1R, j_eqLL, j_ltLL, j_leLL, n_le0, n_le1, n_lt0, n_lt1, gc_v, gc_n, ↓reduceIte, and_true, true_and, and_self, or_self, or_false, false_or, not_false_eq_true, not_true_eq_false, false_and, and_false, Nat.reduceAdd, Nat.reduceEqDiff, Nat.reduceLeDiff, Nat.reduceLT]
        rfl

/-! ===== mates, mate: the class's answers ===== -/
set_option maxRecDepth 100000
theorem omn_l {x y : Option Nat} (h : x ≠ none) : omn x y ≠ none := by
  cases x with
  | none => exact absurd rfl h
  | some x =>
    cases y with
    | none => exact h
    | some y =>
      show (if y < x then some y else some x) ≠ none
      split <;> exact fun z => by cases z
theorem omn_r {x y : Option Nat} (h : y ≠ none) : omn x y ≠ none := by rw [omn_c]; exact omn_l h
theorem fo_some {b : Nat → Option Nat} {x0 : Option Nat} : ∀ n, (x0 ≠ none ∨ ∃ t, t < n ∧ b t ≠ none) → fo (fun t x => omn x (b t)) n x0 ≠ none
  | 0, h => h.resolve_right (fun ⟨t, h1, _⟩ => absurd h1 (Nat.not_lt_zero t))
  | n + 1, h => by
    rw [fo_s]
    rcases h with h | ⟨t, h1, h2⟩
    · exact omn_l (fo_some n (Or.inl h))
    · by_cases z : t = n
      · subst z; exact omn_r h2
      · exact omn_l (fo_some n (Or.inr ⟨t, by omega, h2⟩))
theorem oad_some {c : Nat} {x : Option Nat} (h : x ≠ none) : oad c x ≠ none := by
  cases x with
  | none => exact absurd rfl h
  | some x => exact fun z => by cases z
/-- there is a way -/
theorem mLow_lt : ∀ s, s < 128 → s ≠ 0 → mX s (mLow s) ≠ 0 → mLow s < mLow (mX s (mLow s)) := by decide +kernel
theorem or_p : ∀ n, n < 7 → ∀ s, s < 64 → s < 2 ^ n → Int32.ofNat s ||| ((1 : Int32) <<< (Int32.ofNat n &&& 31)) = Int32.ofNat (s + 2 ^ n) := by decide +kernel
theorem mC_some (r : gdR) (N : Nat) : ∀ k s, s ≤ k → s < 128 → (∀ q, s.testBit q = true → q < N) → mC r N s (mPar s) ≠ none
  | 0, s, hk, hs, hN => by
    have e : s = 0 := by omega
    subst e
    rw [mC_0]
    exact fun z => by cases z
  | k + 1, s, hk, hs, hN => by
    by_cases e : s = 0
    · subst e
      rw [mC_0]
      exact fun z => by cases z
    · obtain ⟨l1, l2⟩ := mLow_p s hs e
      have x1 := mX_lt s hs _ l1 l2
      have xp := mPar_x s hs _ l1 l2
      have p1 := mPar_1 s hs
      have hN2 : ∀ q, (mX s (mLow s)).testBit q = true → q < N ∧ s.testBit q = true ∧ ¬ mLow s = q := by
        intro q hq
        rw [mX_bit] at hq
        by_cases z : mLow s = q
        · rw [decide_eq_true z, ← z, l2] at hq; cases hq
        · rw [decide_eq_false z] at hq
          have hq2 : s.testBit q = true := by simpa using hq
          exact ⟨hN q hq2, hq2, z⟩
      rw [mC_eq r N s _ hs e]
      by_cases c : mPar s = 1
      · refine fo_some _ (Or.inl ?_)
        rw [if_pos c]
        have ih := mC_some r N k (mX s (mLow s)) (by omega) (by omega) (fun q hq => (hN2 q hq).1)
        rw [show mPar (mX s (mLow s)) = 0 by omega] at ih
        exact ih
      · have e2 : mX s (mLow s) ≠ 0 := by
          intro z
          have : mPar (mX s (mLow s)) = 0 := by rw [z]; rfl
          omega
        obtain ⟨m1, m2⟩ := mLow_p _ (show mX s (mLow s) < 128 by omega) e2
        obtain ⟨n1, n2, n3⟩ := hN2 _ m2
        have lt : mLow s < mLow (mX s (mLow s)) := mLow_lt s hs e e2
        have eq2 : mLow s + 1 + (mLow (mX s (mLow s)) - mLow s - 1) = mLow (mX s (mLow s)) := by omega
        refine fo_some _ (Or.inr ⟨mLow (mX s (mLow s)) - mLow s - 1, by omega, ?_⟩)
        rw [eq2, if_pos n2]
        have x2 := mX_lt _ (show mX s (mLow s) < 128 by omega) _ m1 m2
        have xp2 := mPar_x _ (show mX s (mLow s) < 128 by omega) _ m1 m2
        have ih := mC_some r N k (mX (mX s (mLow s)) (mLow (mX s (mLow s)))) (by omega) (by omega) (fun q hq => by
          rw [mX_bit] at hq
          by_cases z : mLow (mX s (mLow s)) = q
          · rw [← z]; exact n1
          · rw [decide_eq_false z] at hq
            exact (hN2 q (by simpa using hq)).1)
        rw [show mPar (mX (mX s (mLow s)) (mLow (mX s (mLow s)))) = mPar s by omega] at ih
        exact oad_some ih
/-- who is there -/
def mS0 (D : gdD) : Nat := (pThere (dE D) (dNow D)).toNatClampNeg
theorem pBits_n (c : Nat → Bool) : ∀ n, n ≤ 7 → ∃ s, pBits c n = Int32.ofNat s ∧ s < 2 ^ n
  | 0, _ => ⟨0, rfl, by decide⟩
  | n + 1, h => by
    obtain ⟨s, h1, h2⟩ := pBits_n c n (by omega)
    have e : pBits c (n + 1) = if c n = true then pBits c n ||| ((1 : Int32) <<< (Int32.ofNat n &&& 31)) else pBits c n := rfl
    rw [e, h1]
    by_cases z : c n = true
    · rw [if_pos z]
      exact ⟨s + 2 ^ n, or_p n (by omega) s (by
        have : 2 ^ n ≤ 2 ^ 6 := Nat.pow_le_pow_right (by omega) (by omega)
        omega) h2, by rw [Nat.pow_succ]; omega⟩
    · rw [if_neg z]
      exact ⟨s, rfl, by rw [Nat.pow_succ]; omega⟩
theorem mS0_p (D : gdD) (hN : eN (dE D) ≤ 7) : pThere (dE D) (dNow D) = Int32.ofNat (mS0 D) ∧ mS0 D < 128 ∧ ∀ q, (mS0 D).testBit q = true → q < eN (dE D) := by
  obtain ⟨s, h1, h2⟩ := pBits_n (fun p => decide (dNow D (35 + p) = 1)) (eN (dE D)) hN
  have h3 : 2 ^ eN (dE D) ≤ 2 ^ 7 := Nat.pow_le_pow_right (by omega) (by omega)
  have h1' : pThere (dE D) (dNow D) = Int32.ofNat s := h1
  have e : mS0 D = s := by
    unfold mS0
    rw [h1', j_cl (by omega)]
  rw [e]
  refine ⟨h1', by omega, fun q hq => ?_⟩
  by_cases c : q < eN (dE D)
  · exact c
  · have h4 : 2 ^ eN (dE D) ≤ 2 ^ q := Nat.pow_le_pow_right (by omega) (by omega)
    rw [Nat.testBit_lt_two_pow (by omega)] at hq
    cases hq
def vMz (D : gdD) : Option (Nat × gdR) := mZ (dNow D) (eN (dE D)) (mS0 D) (mPar (mS0 D)) 0 (fun _ => -1)
def vMates (D : gdD) : Int32 := oE (o1 (vMz D))
def vMate (D : gdD) (p : Nat) : Int32 := match vMz D with
  | some (_, g) => g p
  | none => -1
theorem vMz_some (D : gdD) (hN : eN (dE D) ≤ 7) : ∃ v g, vMz D = some (v, g) := by
  obtain ⟨-, s1, s2⟩ := mS0_p D hN
  have h := mC_some (dNow D) (eN (dE D)) 128 (mS0 D) (by omega) s1 s2
  have e : o1 (vMz D) = oad 0 (mC (dNow D) (eN (dE D)) (mS0 D) (mPar (mS0 D))) := mZ_c ..
  rw [oad_0] at e
  rw [← e] at h
  cases c : vMz D with
  | none => rw [c] at h; exact absurd rfl h
  | some z => exact ⟨z.1, z.2, rfl⟩
theorem sp2 {h : gd_H} {d : Nat} (hd : 1 ≤ d) {s : Nat} (hs : s < 128) : ∃ x, run gd_P0 d 2 [.int (Int32.ofNat s)] h = some (.inl (some (.int x)), h) ∧ (x - x / 2 * 2 = 1 ↔ mPar s = 1) := by
  obtain ⟨d, rfl⟩ : ∃ e, d = e + 1 := ⟨d - 1, by omega⟩
  rw [r2, s2_0]
  refine ⟨_, rfl, ?_⟩
  revert s
  decide +kernel
theorem sp173 {h : gd_H} {D : gdD} {a σ m : Nat} (hi : XI h D) (hs : SS h a σ) (hx : XC (gI h) a σ (dE D) (-1) (dNow D)) (hr : RI (dE D) m (dNow D)) (ha : 101 ≤ a ∧ a + 16 ≤ 373) {d : Nat} (hd : 200 ≤ d) : ∃ h', run gd_P0 d 173 [.ref 1212, .ref a] h = some (.inl none, h') ∧ XQ h h' ∧ gI h' 1212 3 = vMates D ∧ ∀ p, p < 7 → gI h' 1214 p = vMate D p := by
  obtain ⟨d, rfl⟩ : ∃ e, d = e + 1 := ⟨d - 1, by omega⟩
  obtain ⟨h0, eh, q0⟩ : ∃ h0, wR h (up1 (gR h) 1212 2 a) = h0 ∧ XQ h h0 := ⟨_, rfl, gI h, gJ h, up1 (gR h) 1212 2 a, rfl, fun _ _ _ => rfl, fun _ _ => rfl, fun _ _ => rfl, fun b j _ hj => by
    rw [up1_at, if_neg hj]⟩
  have hg0 := hi.1.q q0
  have hσ3 : 1223 < σ := hs.1.2.2
  have hs0 : SS h0 a σ := by
    subst eh
    unfold SS at hs ⊢
    rw [gR_wR, up1_nc _ _ _ (show a ≠ 1212 by omega), up1_nc _ _ _ (show σ ≠ 1212 by omega)]
    exact hs
  have ei : gI h0 = gI h := by rw [← eh]; rfl
  have hx0 : XC (gI h0) a σ (dE D) (-1) (dNow D) := by rw [ei]; exact hx
  have hR2 : gR h0 1212 2 = a := by rw [← eh, gR_wR, up1_eq]
  obtain ⟨v, g, ev⟩ := vMz_some D hx.1.2
  obtain ⟨t1, t2, t3⟩ := mS0_p D hx.1.2
  have p1 := mPar_1 _ t2
  obtain ⟨y1, y2, y3, y4, y5, y6⟩ := hg0.2.2.2.2.2.2.1
  have L := lp_e (fun i I => go gd_P0 d 173 12 [.ref 1212, .ref a, .int (Int32.ofNat i)] [] (wI h0 I)) (fun i I => (∀ x, x ≠ 1212 → x ≠ 1213 → x ≠ 1214 → I x = gI h0 x) ∧ I 1212 3 = -1 ∧ ∀ j, j < i → I 1213 j = -1 ∧ I 1214 j = -1) 7 (up1 (gI h0) 1212 3 (-1)) ⟨fun x z1 _ _ => up1_nc _ _ _ z1, up1_eq _ _ _ _, fun j hj => absurd hj (Nat.not_lt_zero j)⟩ ?_
  · obtain ⟨I, e1, i1, i2, i3⟩ := L
    have hI : mI h0 I none (fun _ => -1) := ⟨i1, i2, fun j hj => (i3 j hj).1, fun v g e => by cases e⟩
    have ns : ∀ b, b ≠ 1212 → b ≠ 1213 → b ≠ 1214 → I b = gI h0 b := i1
    have hs1 : SS (wI h0 I) a σ := hs0
    have hx1 : XC (gI (wI h0 I)) a σ (dE D) (-1) (dNow D) := hx0.fr hσ3 (fun b hb => i1 b (by omega) (by omega) (by omega))
    have e149 := sp149 (d := d) (by omega) hs1 hx1
    obtain ⟨x, ex, hxp⟩ := sp2 (h := wI h0 I) (d := d) (by omega) t2
    obtain ⟨I', f', e174, hI', -⟩ := sp174 hg0 hs0 hx0 hr hR2 128 (mS0 D) (mPar (mS0 D)) 0 I none (fun _ => -1) d (by omega) t2 (by omega) t3 rfl (by omega) hI
    rw [bet_n] at hI'
    have ev2 : mZ (dNow D) (eN (dE D)) (mS0 D) (mPar (mS0 D)) 0 (fun _ => -1) = some (v, g) := ev
    obtain ⟨k1, k2, k3, k4⟩ := hI'
    refine ⟨wI h0 I', ?_, q0.trans (XQ.i (fun b hb => k1 b (fun z => hb (by unfold scr; omega)) (fun z => hb (by unfold scr; omega)) (fun z => hb (by unfold scr; omega)))), k2, fun p hp => ?_⟩
    · have s0 : run gd_P0 (d + 1) 173 [.ref 1212, .ref a] h = go gd_P0 d 173 12 [.ref 1212, .ref a, .int (Int32.ofNat 0)] [] (wI h0 (up1 (gI h0) 1212 3 (-1))) := by
        subst eh
        rw [r173, s173_0]
        simp (disch := first | omega | assumption) only [x_t5 hi.1, gT_wI, gR_wI, gL_wI, gS_wI, gU_wI, gI_wI, gJ_wI, gI_wJ, gJ_wJ, gR_wJ, gT_wJ, gL_wJ, gS_wJ, gU_wJ, gI_wR, gJ_wR, gR_wR, gT_wR, gL_wR, gS_wR, gU_wR, wI_wI, wJ_wJ, wR_wR, j_s, j_add, j_addL, j_addR, j_mulL, j_mulR, j_cl, j_clL, j_neg, j_negL, j_nn, j_lt, j_le, j_eq, j_ltL, j_ltR, j_leL, j_leR, j_eqL, j_eqR, j_m1, j_m1L, j_m1R, j_eqLL, j_ltLL, j_leLL, n_le0, n_le1, n_lt0, n_lt1, gc_v, gc_n, ↓reduceIte, and_true, true_and, and_self, or_self, or_false, false_or, not_false_eq_true, not_true_eq_false, false_and, and_false, Nat.reduceAdd, Nat.reduceEqDiff, Nat.reduceLeDiff, Nat.reduceLT]
        rfl
      rw [s0, e1]
      try dsimp only
      rw [s173_12]
      have c7 : (7 : Int32) ≤ Int32.ofNat 7 := by decide
      rw [t1] at e149
      by_cases pe : mPar (mS0 D) = 1
      · have xe := hxp.mpr pe
        rw [pe] at e174
        have e174' : run gd_P0 d 174 [.ref 1212, .int (Int32.ofNat (mS0 D)), .int 1, .int 0] (wI h0 I) = _ := e174
        simp (disch := first | omega | assumption) only [c7, hg0.1, x_t5 hg0, e149, hs0.2.1.1, s173_43, s173_47, ex, s173_50, xe, s173_61, e174', s173_65, gT_wI, gR_wI, gL_wI, gS_wI, gU_wI, gI_wI, gJ_wI, gI_wJ, gJ_wJ, gR_wJ, gT_wJ, gL_wJ, gS_wJ, gU_wJ, gI_wR, gJ_wR, gR_wR, gT_wR, gL_wR, gS_wR, gU_wR, wI_wI, wJ_wJ, wR_wR, j_s, j_add, j_addL, j_addR, j_mulL, j_mulR, j_cl, j_clL, j_neg, j_negL, j_nn, j_lt, j_le, j_eq, j_ltL, j_ltR, j_leL, j_leR, j_eqL, j_eqR, j_m1, j_m1L, j_m1R, j_eqLL, j_ltLL, j_leLL, n_le0, n_le1, n_lt0, n_lt1, gc_v, gc_n, ↓reduceIte, and_true, true_and, and_self, or_self, or_false, false_or, not_false_eq_true, not_true_eq_false, false_and, and_false, Nat.reduceAdd, Nat.reduceEqDiff, Nat.reduceLeDiff, Nat.reduceLT]
      · have xe : ¬ x - x / 2 * 2 = 1 := fun z => pe (hxp.mp z)
        rw [show mPar (mS0 D) = 0 by omega] at e174
        have e174' : run gd_P0 d 174 [.ref 1212, .int (Int32.ofNat (mS0 D)), .int 0, .int 0] (wI h0 I) = _ := e174
        simp (disch := first | omega | assumption) only [c7, hg0.1, x_t5 hg0, e149, hs0.2.1.1, s173_43, s173_47, ex, s173_50, xe, s173_61, e174', s173_65, gT_wI, gR_wI, gL_wI, gS_wI, gU_wI, gI_wI, gJ_wI, gI_wJ, gJ_wJ, gR_wJ, gT_wJ, gL_wJ, gS_wJ, gU_wJ, gI_wR, gJ_wR, gR_wR, gT_wR, gL_wR, gS_wR, gU_wR, wI_wI, wJ_wJ, wR_wR, j_s, j_add, j_addL, j_addR, j_mulL, j_mulR, j_cl, j_clL, j_neg, j_negL, j_nn, j_lt, j_le, j_eq, j_ltL, j_ltR, j_leL, j_leR, j_eqL, j_eqR, j_m1, j_m1L, j_m1R, j_eqLL, j_ltLL, j_leLL, n_le0, n_le1, n_lt0, n_lt1, gc_v, gc_n, ↓reduceIte, and_true, true_and, and_self, or_self, or_false, false_or, not_false_eq_true, not_true_eq_false, false_and, and_false, Nat.reduceAdd, Nat.reduceEqDiff, Nat.reduceLeDiff, Nat.reduceLT]
    · have := (k4 v g ev2).2 p hp
      show I' 1214 p = vMate D p
      unfold vMate
      rw [ev]
      exact this
  · intro i hi7 I ⟨i1, i2, i3⟩
    try dsimp only
    refine ⟨up1 (up1 I 1213 i (-1)) 1214 i (-1), ?_, fun x z1 z2 z3 => by rw [up1_nc _ _ _ z3, up1_nc _ _ _ z2]; exact i1 x z1 z2 z3, by rw [up1_nc _ _ _ (by omega), up1_nc _ _ _ (by omega)]; exact i2, fun j hj => ?_⟩
    · rw [s173_12]
      have c7 : ¬ (7 : Int32) ≤ Int32.ofNat i := by
        rw [j_leL (by omega) (by omega)]; omega
      simp (disch := first | omega | assumption) only [c7, x_t5 hg0, y1, y2, y3, y4, y5, y6, gT_wI, gR_wI, gL_wI, gS_wI, gU_wI, gI_wI, gJ_wI, gI_wJ, gJ_wJ, gR_wJ, gT_wJ, gL_wJ, gS_wJ, gU_wJ, gI_wR, gJ_wR, gR_wR, gT_wR, gL_wR, gS_wR, gU_wR, wI_wI, wJ_wJ, wR_wR, j_s, j_add, j_addL, j_addR, j_mulL, j_mulR, j_cl, j_clL, j_neg, j_negL, j_nn, j_lt, j_le, j_eq, j_ltL, j_ltR, j_leL, j_leR, j_eqL, j_eqR, j_m1, j_m1L, j_m1R, j_eqLL, j_ltLL, j_leLL, n_le0, n_le1, n_lt0, n_lt1, gc_v, gc_n, ↓reduceIte, and_true, true_and, and_self, or_self, or_false, false_or, not_false_eq_true, not_true_eq_false, false_and, and_false, Nat.reduceAdd, Nat.reduceEqDiff, Nat.reduceLeDiff, Nat.reduceLT]
    · by_cases z : j = i
      · subst z
        exact ⟨by rw [up1_nc _ _ _ (by omega), up1_eq], up1_eq _ _ _ _⟩
      · exact ⟨by rw [up1_nc _ _ _ (show (1213 : Nat) ≠ 1214 by omega), up1_nj _ _ z]; exact (i3 j (by omega)).1, by rw [up1_nj _ _ z, up1_nc _ _ _ (show (1214 : Nat) ≠ 1213 by omega)]; exact (i3 j (by omega)).2⟩
theorem x45 {D : gdD} : XOk 45 [] D (.int (vMates D)) := by
  intro d h hd hi hD
  obtain ⟨a, σ, m, h145, hσ, hs, hx, hr, hm, hl, hE, ha, hT9⟩ := hi.nw hD
  have hg := hi.1
  have hz : 4 ≤ gS h := by have := hi.2.2.2.2.2.2.2.2.2.2; omega
  obtain ⟨d, rfl⟩ : ∃ e, d = e + 1 := ⟨d - 1, by omega⟩
  obtain ⟨⟨hA1, hA2, hS1⟩, ⟨tA, rA8, tLw, rA9⟩, ⟨rA0, tA1, lA1⟩, ⟨rA1, tA2, lA2⟩, ⟨rA2, tA3, lA3⟩, ⟨rA3, tA4, lA4⟩, ⟨rA4, tA5, lA5⟩, ⟨rA5, tA6, lA6⟩, ⟨rA6, tA7, lA7⟩, ⟨rA7, tA8⟩, tS, ⟨rS0, tS1, lS1⟩, ⟨rS1, tS2, lS2⟩, ⟨rS2, tS3, lS3⟩, ⟨rS3, tS4, lS4⟩, ⟨rS4, tS5, lS5⟩, ⟨rS5, tS6, lS6⟩⟩ := id hs
  obtain ⟨⟨hB, hN⟩, ⟨iB, iN⟩, iG, iK, iR, cH, cF, cO, cA, cC, cW, cT, cG, cM, cL⟩ := id hx
  obtain ⟨h', e173, q, r1, -⟩ := sp173 hi hs hx hr ⟨ha.1, ha.2.1⟩ (d := d) (by omega)
  refine ⟨h', ?_, q⟩
  have hg' := (hi.q q).1
  rw [r45, s45_0]
  simp (disch := first | omega | assumption) only [hg.1, hg'.1, x_r2 hg, x_t2 hg, x_r5 hg, x_t5 hg, x_r5 hg', x_t5 hg', h145, s45_11, e173, s45_14, r1, gT_wI, gR_wI, gL_wI, gS_wI, gU_wI, gI_wI, gJ_wI, gI_wJ, gJ_wJ, gR_wJ, gT_wJ, gL_wJ, gS_wJ, gU_wJ, gI_wR, gJ_wR, gR_wR, gT_wR, gL_wR, gS_wR, gU_wR, wI_wI, wJ_wJ, wR_wR, j_s, j_add, j_addL, j_addR, j_mulL, j_mulR, j_cl, j_clL, j_neg, j_negL, j_nn, j_lt, j_le, j_eq, j_ltL, j_ltR, j_leL, j_leR, j_eqL, j_eqR, j_m1, j_m1L, j_m1R, j_eqLL, j_ltLL, j_leLL, n_le0, n_le1, n_lt0, n_lt1, gc_v, gc_n, ↓reduceIte, and_true, true_and, and_self, or_self, or_false, false_or, not_false_eq_true, not_true_eq_false, false_and, and_false, Nat.reduceAdd, Nat.reduceEqDiff, Nat.reduceLeDiff, Nat.reduceLT]
theorem x71 {D : gdD} {p : Nat} (hp : p < eN (dE D)) : XOk 71 [.int (Int32.ofNat p)] D (.int (vMate D p)) := by
  intro d h hd hi hD
  obtain ⟨a, σ, m, h145, hσ, hs, hx, hr, hm, hl, hE, ha, hT9⟩ := hi.nw hD
  have hg := hi.1
  have hz : 4 ≤ gS h := by have := hi.2.2.2.2.2.2.2.2.2.2; omega
  obtain ⟨d, rfl⟩ : ∃ e, d = e + 1 := ⟨d - 1, by omega⟩
  obtain ⟨⟨hA1, hA2, hS1⟩, ⟨tA, rA8, tLw, rA9⟩, ⟨rA0, tA1, lA1⟩, ⟨rA1, tA2, lA2⟩, ⟨rA2, tA3, lA3⟩, ⟨rA3, tA4, lA4⟩, ⟨rA4, tA5, lA5⟩, ⟨rA5, tA6, lA6⟩, ⟨rA6, tA7, lA7⟩, ⟨rA7, tA8⟩, tS, ⟨rS0, tS1, lS1⟩, ⟨rS1, tS2, lS2⟩, ⟨rS2, tS3, lS3⟩, ⟨rS3, tS4, lS4⟩, ⟨rS4, tS5, lS5⟩, ⟨rS5, tS6, lS6⟩⟩ := id hs
  obtain ⟨⟨hB, hN⟩, ⟨iB, iN⟩, iG, iK, iR, cH, cF, cO, cA, cC, cW, cT, cG, cM, cL⟩ := id hx
  obtain ⟨h', e173, q, -, r1⟩ := sp173 hi hs hx hr ⟨ha.1, ha.2.1⟩ (d := d) (by omega)
  refine ⟨h', ?_, q⟩
  have hg' := (hi.q q).1
  have e64 := sp64 hg hσ hs hx (d := d) (by omega) hp
  have r2' := r1 p (by omega)
  obtain ⟨y1, y2, y3, y4, y5, y6⟩ := hg'.2.2.2.2.2.2.1
  rw [r71, s71_0]
  simp (disch := first | omega | assumption) only [hg.1, hg'.1, x_r2 hg, x_t2 hg, x_r5 hg, x_t5 hg, x_r5 hg', x_t5 hg', h145, e64, s71_5, s71_16, e173, s71_19, y4, y5, y6, r2', gT_wI, gR_wI, gL_wI, gS_wI, gU_wI, gI_wI, gJ_wI, gI_wJ, gJ_wJ, gR_wJ, gT_wJ, gL_wJ, gS_wJ, gU_wJ, gI_wR, gJ_wR, gR_wR, gT_wR, gL_wR, gS_wR, gU_wR, wI_wI, wJ_wJ, wR_wR, j_s, j_add, j_addL, j_addR, j_mulL, j_mulR, j_cl, j_clL, j_neg, j_negL, j_nn, j_lt, j_le, j_eq, j_ltL, j_ltR, j_leL, j_leR, j_eqL, j_eqR, j_m1, j_m1L, j_m1R, j_eqLL, j_ltLL, j_leLL, n_le0, n_le1, n_lt0, n_lt1, gc_v, gc_n, ↓reduceIte, and_true, true_and, and_self, or_self, or_false, false_or, not_false_eq_true, not_true_eq_false, false_and, and_false, Nat.reduceAdd, Nat.reduceEqDiff, Nat.reduceLeDiff, Nat.reduceLT]
theorem x71a {D : gdD} {v : Int32} (hv : v < 0 ∨ Int32.ofNat (eN (dE D)) ≤ v) : XNo 71 [.int v] D 24 := by
  intro d h hd hi hD
  obtain ⟨a, σ, m, h145, hσ, hs, hx, hr, hm, hl, hE, ha, hT9⟩ := hi.nw hD
  have hg := hi.1
  have hz : 4 ≤ gS h := by have := hi.2.2.2.2.2.2.2.2.2.2; omega
  obtain ⟨d, rfl⟩ : ∃ e, d = e + 1 := ⟨d - 1, by omega⟩
  obtain ⟨⟨hA1, hA2, hS1⟩, ⟨tA, rA8, tLw, rA9⟩, ⟨rA0, tA1, lA1⟩, ⟨rA1, tA2, lA2⟩, ⟨rA2, tA3, lA3⟩, ⟨rA3, tA4, lA4⟩, ⟨rA4, tA5, lA5⟩, ⟨rA5, tA6, lA6⟩, ⟨rA6, tA7, lA7⟩, ⟨rA7, tA8⟩, tS, ⟨rS0, tS1, lS1⟩, ⟨rS1, tS2, lS2⟩, ⟨rS2, tS3, lS3⟩, ⟨rS3, tS4, lS4⟩, ⟨rS4, tS5, lS5⟩, ⟨rS5, tS6, lS6⟩⟩ := id hs
  obtain ⟨⟨hB, hN⟩, ⟨iB, iN⟩, iG, iK, iR, cH, cF, cO, cA, cC, cW, cT, cG, cM, cL⟩ := id hx
  rw [r71, s71_0]
  simp (disch := first | omega | assumption) only [hg.1, x_r2 hg, x_t2 hg, x_r5 hg, x_t5 hg, hσ, h145, tA, rA8, tLw, rA9, rA0, tA1, lA1, rA1, tA2, lA2, rA2, tA3, lA3, rA3, tA4, lA4, rA4, tA5, lA5, rA5, tA6, lA6, rA6, tA7, lA7, rA7, tA8, tS, rS0, tS1, lS1, rS1, tS2, lS2, rS2, tS3, lS3, rS3, tS4, lS4, rS4, tS5, lS5, rS5, tS6, lS6, iB, iN, iG, iK, iR, cH, cF, cO, cA, cC, cT, cG, cM, cL, sp64n hg hz hσ hs hx (d := d) (by omega) hv, gc_x, gx_n (k := 71) (pc := 2) (t := 24) rfl, gT_wI, gR_wI, gL_wI, gS_wI, gU_wI, gI_wI, gJ_wI, gI_wJ, gJ_wJ, gR_wJ, gT_wJ, gL_wJ, gS_wJ, gU_wJ, gI_wR, gJ_wR, gR_wR, gT_wR, gL_wR, gS_wR, gU_wR, wI_wI, wJ_wJ, wR_wR, j_s, j_add, j_addL, j_addR, j_mulL, j_mulR, j_cl, j_clL, j_neg, j_negL, j_nn, j_lt, j_le, j_eq, j_ltL, j_ltR, j_leL, j_leR, j_eqL, j_eqR, j_m1, j_m1L, j_m1R, j_eqLL, j_ltLL, j_leLL, n_le0, n_le1, n_lt0, n_lt1, gc_v, gc_n, ↓reduceIte, and_true, true_and, and_self, or_self, or_false, false_or, not_false_eq_true, not_true_eq_false, false_and, and_false, Nat.reduceAdd, Nat.reduceEqDiff, Nat.reduceLeDiff, Nat.reduceLT]

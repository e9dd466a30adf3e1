/-! ===== CHAIRS ===== -/
set_option maxRecDepth 100000
/-- what boys of a set get together by a bound -/
def pS (r : gdR) (s : Int32) (N b : Nat) : Nat := fo (fun p a => if bt s p = true then a + min b (r p).toNatClampNeg else a) N 0
theorem pS_s (r : gdR) (s : Int32) (N b : Nat) : pS r s (N + 1) b = if bt s N = true then pS r s N b + min b (r N).toNatClampNeg else pS r s N b := rfl
theorem pS_mono (r : gdR) (s : Int32) {b c : Nat} (h : b ≤ c) : ∀ N, pS r s N b ≤ pS r s N c
  | 0 => Nat.le_refl _
  | N + 1 => by
    have ih := pS_mono r s h N
    rw [pS_s, pS_s]
    split <;> omega
theorem pS_0 (r : gdR) (s : Int32) : ∀ N, pS r s N 0 = 0
  | 0 => rfl
  | N + 1 => by
    rw [pS_s, pS_0 r s N]
    split <;> omega
theorem pS_le (r : gdR) (s : Int32) (b : Nat) : ∀ N, pS r s N b ≤ b * N
  | 0 => Nat.le_refl _
  | N + 1 => by
    have ih := pS_le r s b N
    rw [pS_s, Nat.mul_succ]
    split <;> omega
/-- the greatest bound that n lets -/
def pCh (r : gdR) (s : Int32) (N n : Nat) : Nat := fi (fun j => decide (pS r s N (999 - j) ≤ n)) (fun j => 999 - j) 0 999 0
theorem pCh_eq {r : gdR} {s : Int32} {N n B : Nat} (h1 : B ≤ 999) (h2 : pS r s N B ≤ n) (h3 : ∀ c, B < c → c ≤ 999 → n < pS r s N c) : pCh r s N n = B := by
  unfold pCh
  rcases fi_or (c := fun j => decide (pS r s N (999 - j) ≤ n)) (R := fun j => 999 - j) (e := 0) 999 0 with ⟨e1, e2⟩ | ⟨j, _, j2, j3, j4, j5⟩
  · rw [e1]
    by_cases z : B = 0
    · exact z.symm
    · have := of_decide_eq_false (e2 (999 - B) (by omega) (by omega))
      rw [show 999 - (999 - B) = B by omega] at this
      exact absurd h2 this
  · rw [j4]
    have k3 := of_decide_eq_true j3
    try dsimp only
    by_cases z : 999 - j < B
    · have := of_decide_eq_false (j5 (999 - B) (by omega) (by omega))
      rw [show 999 - (999 - B) = B by omega] at this
      exact absurd h2 this
    · by_cases z2 : B < 999 - j
      · have := h3 (999 - j) z2 (by omega)
        omega
      · omega
theorem pCh_le (r : gdR) (s : Int32) (N n : Nat) : pCh r s N n ≤ 999 := by
  unfold pCh
  rcases fi_or (c := fun j => decide (pS r s N (999 - j) ≤ n)) (R := fun j => 999 - j) (e := 0) 999 0 with ⟨e1, -⟩ | ⟨j, _, j2, j3, j4, j5⟩
  · omega
  · omega
def vCh (D : gdD) (p : Nat) (s : Int32) (n : Nat) : Int32 := if bt s p = true then jmin (Int32.ofNat (pCh (dNow D) s (eN (dE D)) n)) (dNow D p) else 0
theorem shl_n : ∀ n, n < 8 → (1 : Int32) <<< (Int32.ofNat n &&& 31) = Int32.ofNat (2 ^ n) := by decide +kernel
theorem shl_le {n : Nat} (hn : n < 8) (s : Int32) : ((1 : Int32) <<< (Int32.ofNat n &&& 31)) ≤ s ↔ ((1 : Int32) <<< (Int32.ofNat n &&& 31)) - 1 < s := by
  rw [shl_n n hn]
  have h1 : 1 ≤ 2 ^ n := Nat.one_le_two_pow
  have h2 : 2 ^ n ≤ 2 ^ 7 := Nat.pow_le_pow_right (by omega) (by omega)
  generalize 2 ^ n = t at h1 h2
  rw [Int32.le_iff_toInt_le, Int32.lt_iff_toInt_lt, Int32.toInt_sub, j_ti (by omega), Int32.toInt_one, Int.bmod_eq_of_le (by omega) (by omega)]
  omega
theorem sp83 {h : gd_H} {D : gdD} (hi : XI h D) (hD : DI D) {d : Nat} (hd : 3 ≤ d) (s : Int32) {b : Nat} (hb : b ≤ 999) : run gd_P0 d 83 [.ref 96, .int s, .int (Int32.ofNat b)] h = some (.inl (some (.int (Int32.ofNat (pS (dNow D) s (eN (dE D)) b)))), h) := by
  obtain ⟨a, σ, m, h145, hσ, hs, hx, hr, hm, hl, hE, ha, hT9⟩ := hi.nw hD
  have hg := hi.1
  obtain ⟨d, rfl⟩ : ∃ e, d = e + 1 := ⟨d - 1, by omega⟩
  obtain ⟨⟨hA1, hA2, hS1⟩, ⟨tA, rA8, tLw, rA9⟩, ⟨rA0, tA1, lA1⟩, ⟨rA1, tA2, lA2⟩, ⟨rA2, tA3, lA3⟩, ⟨rA3, tA4, lA4⟩, ⟨rA4, tA5, lA5⟩, ⟨rA5, tA6, lA6⟩, ⟨rA6, tA7, lA7⟩, ⟨rA7, tA8⟩, tS, ⟨rS0, tS1, lS1⟩, ⟨rS1, tS2, lS2⟩, ⟨rS2, tS3, lS3⟩, ⟨rS3, tS4, lS4⟩, ⟨rS4, tS5, lS5⟩, ⟨rS5, tS6, lS6⟩⟩ := id hs
  obtain ⟨⟨hB, hN⟩, ⟨iB, iN⟩, iG, iK, iR, cH, cF, cO, cA, cC, cW, cT, cG, cM, cL⟩ := id hx
  rw [r83, s83_0]
  have L := lp_p (fun i (x : Nat) => go gd_P0 d 83 5 [.ref 96, .int s, .int (Int32.ofNat b), .int (Int32.ofNat x), .int (Int32.ofNat i)] [] h) (fun p a => if bt s p = true then a + min b (dNow D p).toNatClampNeg else a) (fun i x => x ≤ 999 * i) (eN (dE D)) 0 (Nat.le_refl _) ?_
  · refine L.1.trans ?_
    try dsimp only
    rw [s83_5]
    simp (disch := first | omega | assumption) only [hg.1, x_r2 hg, x_t2 hg, hσ, h145, tA, rA8, tLw, rA9, rA0, tA1, lA1, rA1, tA2, lA2, rA2, tA3, lA3, rA3, tA4, lA4, rA4, tA5, lA5, rA5, tA6, lA6, rA6, tA7, lA7, rA7, tA8, tS, rS0, tS1, lS1, rS1, tS2, lS2, rS2, tS3, lS3, rS3, tS4, lS4, rS4, tS5, lS5, rS5, tS6, lS6, iB, iN, iG, iK, iR, cH, cF, cO, cA, cC, cT, cG, cM, cL, gT_wI, gR_wI, gL_wI, gS_wI, gU_wI, gI_wI, gJ_wI, gI_wJ, gJ_wJ, gR_wJ, gT_wJ, gL_wJ, gS_wJ, gU_wJ, gI_wR, gJ_wR, gR_wR, gT_wR, gL_wR, gS_wR, gU_wR, wI_wI, wJ_wJ, wR_wR, j_s, j_add, j_addL, j_addR, j_mulL, j_mulR, j_cl, j_clL, j_neg, j_negL, j_nn, j_lt, j_le, j_eq, j_ltL, j_ltR, j_leL, j_leR, j_eqL, j_eqR, j_m1, j_m1L, j_m1R, j_eqLL, j_ltLL, j_leLL, n_le0, n_le1, n_lt0, n_lt1, gc_v, gc_n, ↓reduceIte, and_true, true_and, and_self, or_self, or_false, false_or, not_false_eq_true, not_true_eq_false, false_and, and_false, Nat.reduceAdd, Nat.reduceEqDiff, Nat.reduceLeDiff, Nat.reduceLT]
    rfl
  · intro p hp x hxx
    try dsimp only
    obtain ⟨v, v1, v2⟩ := hr.2.2.2.1 p (by omega)
    have v3 : dNow D p = Int32.ofNat v := v2
    have q1 := b_q1 (x := s) (k := p) (by omega)
    have jm : (if Int32.ofNat v < Int32.ofNat b then Int32.ofNat v else Int32.ofNat b) = Int32.ofNat (min b v) := jmin_n b v (by omega) (by omega)
    rw [s83_5]
    by_cases c : bt s p = true
    · refine ⟨?_, ?_⟩
      · have jm2 : (if v < b then Int32.ofNat v else Int32.ofNat b) = Int32.ofNat (min b v) := by
          simp only [j_lt (show v < 2147483648 by omega) (show b < 2147483648 by omega)] at jm
          exact jm
        simp (disch := first | omega | assumption) only [hg.1, x_r2 hg, x_t2 hg, hσ, h145, tA, rA8, tLw, rA9, rA0, tA1, lA1, rA1, tA2, lA2, rA2, tA3, lA3, rA3, tA4, lA4, rA4, tA5, lA5, rA5, tA6, lA6, rA6, tA7, lA7, rA7, tA8, tS, rS0, tS1, lS1, rS1, tS2, lS2, rS2, tS3, lS3, rS3, tS4, lS4, rS4, tS5, lS5, rS5, tS6, lS6, iB, iN, iG, iK, iR, cH, cF, cO, cA, cC, cT, cG, cM, cL, q1, c, v3, s83_36, jm2, s83_45, s83_47, gT_wI, gR_wI, gL_wI, gS_wI, gU_wI, gI_wI, gJ_wI, gI_wJ, gJ_wJ, gR_wJ, gT_wJ, gL_wJ, gS_wJ, gU_wJ, gI_wR, gJ_wR, gR_wR, gT_wR, gL_wR, gS_wR, gU_wR, wI_wI, wJ_wJ, wR_wR, j_s, j_add, j_addL, j_addR, j_mulL, j_mulR, j_cl, j_clL, j_neg, j_negL, j_nn, j_lt, j_le, j_eq, j_ltL, j_ltR, j_leL, j_leR, j_eqL, j_eqR, j_m1, j_m1L, j_m1R, j_eqLL, j_ltLL, j_leLL, n_le0, n_le1, n_lt0, n_lt1, gc_v, gc_n, ↓reduceIte, and_true, true_and, and_self, or_self, or_false, false_or, not_false_eq_true, not_true_eq_false, false_and, and_false, Nat.reduceAdd, Nat.reduceEqDiff, Nat.reduceLeDiff, Nat.reduceLT]
      · rw [if_pos c, v3, j_cl (by omega)]; omega
    · refine ⟨?_, ?_⟩
      · simp (disch := first | omega | assumption) only [hg.1, x_r2 hg, x_t2 hg, hσ, h145, tA, rA8, tLw, rA9, rA0, tA1, lA1, rA1, tA2, lA2, rA2, tA3, lA3, rA3, tA4, lA4, rA4, tA5, lA5, rA5, tA6, lA6, rA6, tA7, lA7, rA7, tA8, tS, rS0, tS1, lS1, rS1, tS2, lS2, rS2, tS3, lS3, rS3, tS4, lS4, rS4, tS5, lS5, rS5, tS6, lS6, iB, iN, iG, iK, iR, cH, cF, cO, cA, cC, cT, cG, cM, cL, q1, c, s83_47, Bool.false_eq_true, gT_wI, gR_wI, gL_wI, gS_wI, gU_wI, gI_wI, gJ_wI, gI_wJ, gJ_wJ, gR_wJ, gT_wJ, gL_wJ, gS_wJ, gU_wJ, gI_wR, gJ_wR, gR_wR, gT_wR, gL_wR, gS_wR, gU_wR, wI_wI, wJ_wJ, wR_wR, j_s, j_add, j_addL, j_addR, j_mulL, j_mulR, j_cl, j_clL, j_neg, j_negL, j_nn, j_lt, j_le, j_eq, j_ltL, j_ltR, j_leL, j_leR, j_eqL, j_eqR, j_m1, j_m1L, j_m1R, j_eqLL, j_ltLL, j_leLL, n_le0, n_le1, n_lt0, n_lt1, gc_v, gc_n, ↓reduceIte, and_true, true_and, and_self, or_self, or_false, false_or, not_false_eq_true, not_true_eq_false, false_and, and_false, Nat.reduceAdd, Nat.reduceEqDiff, Nat.reduceLeDiff, Nat.reduceLT]
      · rw [if_neg c]; omega
theorem sp266 {h : gd_H} {D : gdD} (hi : MI h D) (hD : DI D) {d : Nat} (hd : 1 ≤ d) (s : Int32) {b : Nat} (hb : b ≤ 999) : run gd_P0 d 266 [.ref 1231, .int s, .int (Int32.ofNat b)] h = some (.inl (some (.int (Int32.ofNat (pS (dNow D) s (eN (dE D)) b)))), h) := by
  obtain ⟨d, rfl⟩ : ∃ e, d = e + 1 := ⟨d - 1, by omega⟩
  obtain ⟨m, hm4, hr⟩ := hD.2.1 (dW D) (Nat.le_refl _)
  obtain ⟨hm, ⟨hB, hN⟩, ⟨iB, iN, iA⟩, -, -, -, i7, -⟩ := id hi
  rw [r266, s266_0]
  have L := lp_p (fun i (x : Nat) => go gd_P0 d 266 5 [.ref 1231, .int s, .int (Int32.ofNat b), .int (Int32.ofNat x), .int (Int32.ofNat i)] [] h) (fun p a => if bt s p = true then a + min b (dNow D p).toNatClampNeg else a) (fun i x => x ≤ 999 * i) (eN (dE D)) 0 (Nat.le_refl _) ?_
  · refine L.1.trans ?_
    try dsimp only
    rw [s266_5]
    simp (disch := first | omega | assumption) only [hm.t, iN, gT_wI, gR_wI, gL_wI, gS_wI, gU_wI, gI_wI, gJ_wI, gI_wJ, gJ_wJ, gR_wJ, gT_wJ, gL_wJ, gS_wJ, gU_wJ, gI_wR, gJ_wR, gR_wR, gT_wR, gL_wR, gS_wR, gU_wR, wI_wI, wJ_wJ, wR_wR, j_s, j_add, j_addL, j_addR, j_mulL, j_mulR, j_cl, j_clL, j_neg, j_negL, j_nn, j_lt, j_le, j_eq, j_ltL, j_ltR, j_leL, j_leR, j_eqL, j_eqR, j_m1, j_m1L, j_m1R, j_eqLL, j_ltLL, j_leLL, n_le0, n_le1, n_lt0, n_lt1, gc_v, gc_n, ↓reduceIte, and_true, true_and, and_self, or_self, or_false, false_or, not_false_eq_true, not_true_eq_false, false_and, and_false, Nat.reduceAdd, Nat.reduceEqDiff, Nat.reduceLeDiff, Nat.reduceLT]
    rfl
  · intro p hp x hxx
    try dsimp only
    obtain ⟨v, v1, v2⟩ := hr.2.2.2.1 p (by omega)
    have v3 : dNow D p = Int32.ofNat v := v2
    have e47 : ∀ z : Int32, z = Int32.ofNat (min b v) → go gd_P0 d 266 47 [.ref 1231, .int s, .int (Int32.ofNat b), .int (Int32.ofNat x), .int (Int32.ofNat p)] [.int z, .int (s >>> (Int32.ofNat p &&& 31) &&& 1), .int (Int32.ofNat x)] h = go gd_P0 d 266 5 [.ref 1231, .int s, .int (Int32.ofNat b), .int (Int32.ofNat (if bt s p = true then x + min b (dNow D p).toNatClampNeg else x)), .int (Int32.ofNat (p + 1))] [] h := by
      intro z hz
      subst hz
      rw [s266_47, v3, j_cl (by omega), j_s]
      by_cases c : bt s p = true
      · rw [(b_q1 (x := s) (k := p) (by omega)).mpr c, if_pos c, Int32.one_mul, j_add]
      · rw [(b_q0 (x := s) (k := p) (by omega)).mpr (Bool.eq_false_iff.mpr c), if_neg c, Int32.zero_mul, Int32.add_zero]
    refine ⟨?_, ?_⟩
    · rw [s266_5]
      by_cases c : b ≤ v
      · simp (disch := first | omega | assumption) only [hm.t, m_r38 hm, m_t38 hm, m_l38 hm, iN, i7, v3, c, Nat.zero_add, gT_wI, gR_wI, gL_wI, gS_wI, gU_wI, gI_wI, gJ_wI, gI_wJ, gJ_wJ, gR_wJ, gT_wJ, gL_wJ, gS_wJ, gU_wJ, gI_wR, gJ_wR, gR_wR, gT_wR, gL_wR, gS_wR, gU_wR, wI_wI, wJ_wJ, wR_wR, j_s, j_add, j_addL, j_addR, j_mulL, j_mulR, j_cl, j_clL, j_neg, j_negL, j_nn, j_lt, j_le, j_eq, j_ltL, j_ltR, j_leL, j_leR, j_eqL, j_eqR, j_m1, j_m1L, j_m1R, j_eqLL, j_ltLL, j_leLL, n_le0, n_le1, n_lt0, n_lt1, gc_v, gc_n, ↓reduceIte, and_true, true_and, and_self, or_self, or_false, false_or, not_false_eq_true, not_true_eq_false, false_and, and_false, Nat.reduceAdd, Nat.reduceEqDiff, Nat.reduceLeDiff, Nat.reduceLT]
        have e48 := e47 _ (show Int32.ofNat b = Int32.ofNat (min b v) by rw [Nat.min_eq_left c])
        simp only [v3, j_cl (show v < 2147483648 by omega)] at e48
        exact e48
      · simp (disch := first | omega | assumption) only [hm.t, m_r38 hm, m_t38 hm, m_l38 hm, iN, i7, v3, c, Nat.zero_add, gT_wI, gR_wI, gL_wI, gS_wI, gU_wI, gI_wI, gJ_wI, gI_wJ, gJ_wJ, gR_wJ, gT_wJ, gL_wJ, gS_wJ, gU_wJ, gI_wR, gJ_wR, gR_wR, gT_wR, gL_wR, gS_wR, gU_wR, wI_wI, wJ_wJ, wR_wR, j_s, j_add, j_addL, j_addR, j_mulL, j_mulR, j_cl, j_clL, j_neg, j_negL, j_nn, j_lt, j_le, j_eq, j_ltL, j_ltR, j_leL, j_leR, j_eqL, j_eqR, j_m1, j_m1L, j_m1R, j_eqLL, j_ltLL, j_leLL, n_le0, n_le1, n_lt0, n_lt1, gc_v, gc_n, ↓reduceIte, and_true, true_and, and_self, or_self, or_false, false_or, not_false_eq_true, not_true_eq_false, false_and, and_false, Nat.reduceAdd, Nat.reduceEqDiff, Nat.reduceLeDiff, Nat.reduceLT]
        have e48 := e47 _ (show Int32.ofNat v = Int32.ofNat (min b v) by rw [Nat.min_eq_right (by omega)])
        simp only [v3, j_cl (show v < 2147483648 by omega)] at e48
        exact e48
    · split
      · rw [v3, j_cl (by omega)]; omega
      · omega
theorem x82 {D : gdD} {p n : Nat} {s : Int32} (hp : p < eN (dE D)) (s0 : ¬ s < 0) (s1 : ¬ ((1 : Int32) <<< (Int32.ofNat (eN (dE D)) &&& 31)) - 1 < s) (hn : n ≤ 9999) : XOk 82 [.int (Int32.ofNat p), .int s, .int (Int32.ofNat n)] D (.int (vCh D p s n)) := by
  intro d h hd hi hD
  obtain ⟨a, σ, m, h145, hσ, hs, hx, hr, hm, hl, hE, ha, hT9⟩ := hi.nw hD
  have hg := hi.1
  have hz : 4 ≤ gS h := by have := hi.2.2.2.2.2.2.2.2.2.2; omega
  obtain ⟨d, rfl⟩ : ∃ e, d = e + 1 := ⟨d - 1, by omega⟩
  obtain ⟨⟨hA1, hA2, hS1⟩, ⟨tA, rA8, tLw, rA9⟩, ⟨rA0, tA1, lA1⟩, ⟨rA1, tA2, lA2⟩, ⟨rA2, tA3, lA3⟩, ⟨rA3, tA4, lA4⟩, ⟨rA4, tA5, lA5⟩, ⟨rA5, tA6, lA6⟩, ⟨rA6, tA7, lA7⟩, ⟨rA7, tA8⟩, tS, ⟨rS0, tS1, lS1⟩, ⟨rS1, tS2, lS2⟩, ⟨rS2, tS3, lS3⟩, ⟨rS3, tS4, lS4⟩, ⟨rS4, tS5, lS5⟩, ⟨rS5, tS6, lS6⟩⟩ := id hs
  obtain ⟨⟨hB, hN⟩, ⟨iB, iN⟩, iG, iK, iR, cH, cF, cO, cA, cC, cW, cT, cG, cM, cL⟩ := id hx
  refine ⟨h, ?_, XQ.refl h⟩
  have eC := sp53 hg (d := d) (by omega) (v := Int32.ofNat n) (lo := 0) (hi := 9999) (by rw [j_neg (by omega)]; exact fun z => z) (by rw [j_ltL (by omega) (by omega)]; omega)
  have eB := sp53 hg (d := d) (by omega) s0 s1
  have L : ∀ f lo hi9, hi9 - lo < f → lo ≤ hi9 → hi9 ≤ 999 → pS (dNow D) s (eN (dE D)) lo ≤ n → (∀ c, hi9 < c → c ≤ 999 → n < pS (dNow D) s (eN (dE D)) c) → go gd_P0 d 82 39 [.ref 96, .int (Int32.ofNat p), .int s, .int (Int32.ofNat n), .int (Int32.ofNat lo), .int (Int32.ofNat hi9), .null] [] h = go gd_P0 d 82 39 [.ref 96, .int (Int32.ofNat p), .int s, .int (Int32.ofNat n), .int (Int32.ofNat (pCh (dNow D) s (eN (dE D)) n)), .int (Int32.ofNat (pCh (dNow D) s (eN (dE D)) n)), .null] [] h := by
    intro f
    induction f with
    | zero => intro lo hi9 h0; omega
    | succ f ih =>
      intro lo hi9 h0 h1 h2 h3 h4
      by_cases c : hi9 ≤ lo
      · have e : lo = hi9 := by omega
        subst e
        rw [pCh_eq h2 h3 h4]
      · have e83 := sp83 hi hD (d := d) (by omega) s (b := (lo + hi9 + 1) / 2) (by omega)
        have sb := pS_le (dNow D) s ((lo + hi9 + 1) / 2) (eN (dE D))
        have sb2 : pS (dNow D) s (eN (dE D)) ((lo + hi9 + 1) / 2) ≤ 6993 := Nat.le_trans sb (Nat.le_trans (Nat.mul_le_mul (show (lo + hi9 + 1) / 2 ≤ 999 by omega) hN) (by decide))
        rw [s82_39]
        simp (disch := first | omega | assumption) only [hg.1, c, j_divR, e83, gT_wI, gR_wI, gL_wI, gS_wI, gU_wI, gI_wI, gJ_wI, gI_wJ, gJ_wJ, gR_wJ, gT_wJ, gL_wJ, gS_wJ, gU_wJ, gI_wR, gJ_wR, gR_wR, gT_wR, gL_wR, gS_wR, gU_wR, wI_wI, wJ_wJ, wR_wR, j_s, j_add, j_addL, j_addR, j_mulL, j_mulR, j_cl, j_clL, j_neg, j_negL, j_nn, j_lt, j_le, j_eq, j_ltL, j_ltR, j_leL, j_leR, j_eqL, j_eqR, j_m1, j_m1L, j_m1R, j_eqLL, j_ltLL, j_leLL, n_le0, n_le1, n_lt0, n_lt1, gc_v, gc_n, ↓reduceIte, and_true, true_and, and_self, or_self, or_false, false_or, not_false_eq_true, not_true_eq_false, false_and, and_false, Nat.reduceAdd, Nat.reduceEqDiff, Nat.reduceLeDiff, Nat.reduceLT]
        rw [s82_64]
        by_cases c2 : n < pS (dNow D) s (eN (dE D)) ((lo + hi9 + 1) / 2)
        · rw [if_pos (by rw [j_lt (by omega) (by omega)]; exact c2), s82_81]
          rw [show Int32.ofNat ((lo + hi9 + 1) / 2) - 1 = Int32.ofNat ((lo + hi9 + 1) / 2 - 1) from j_sub (n := 1) (by omega)]
          exact ih lo ((lo + hi9 + 1) / 2 - 1) (by omega) (by omega) (by omega) h3 (fun c' h5 h6 => Nat.lt_of_lt_of_le c2 (pS_mono _ _ (by omega) _))
        · rw [if_neg (by rw [j_lt (by omega) (by omega)]; exact c2), s82_81]
          exact ih ((lo + hi9 + 1) / 2) hi9 (by omega) (by omega) h2 (by omega) h4
  have L1 := L 1000 0 999 (by omega) (by omega) (by omega) (by rw [pS_0]; omega) (fun c h5 h6 => by omega)
  rw [r82, s82_0]
  simp (disch := first | omega | assumption) only [hg.1, x_r2 hg, x_t2 hg, hσ, h145, tA, rA8, tLw, rA9, rA0, tA1, lA1, rA1, tA2, lA2, rA2, tA3, lA3, rA3, tA4, lA4, rA4, tA5, lA5, rA5, tA6, lA6, rA6, tA7, lA7, rA7, tA8, tS, rS0, tS1, lS1, rS1, tS2, lS2, rS2, tS3, lS3, rS3, tS4, lS4, rS4, tS5, lS5, rS5, tS6, lS6, iB, iN, iG, iK, iR, cH, cF, cO, cA, cC, cT, cG, cM, cL, sp64 hg hσ hs hx (d := d) (by omega) hp, eB, eC, s82_5, s82_22, s82_31, gT_wI, gR_wI, gL_wI, gS_wI, gU_wI, gI_wI, gJ_wI, gI_wJ, gJ_wJ, gR_wJ, gT_wJ, gL_wJ, gS_wJ, gU_wJ, gI_wR, gJ_wR, gR_wR, gT_wR, gL_wR, gS_wR, gU_wR, wI_wI, wJ_wJ, wR_wR, gc_v, gc_n, ↓reduceIte, and_true, true_and, and_self, or_self, or_false, false_or, not_false_eq_true, not_true_eq_false, false_and, and_false, Nat.reduceAdd, Nat.reduceEqDiff, Nat.reduceLeDiff, Nat.reduceLT]
  refine Eq.trans L1 ?_
  have q0 := b_q0 (x := s) (k := p) (by omega)
  have hc := pCh_le (dNow D) s (eN (dE D)) n
  rw [s82_39, if_pos (Int32.le_refl _)]
  unfold vCh
  by_cases c : bt s p = true
  · simp (disch := first | omega | assumption) only [hg.1, x_r2 hg, x_t2 hg, hσ, h145, tA, rA8, tLw, rA9, rA0, tA1, lA1, rA1, tA2, lA2, rA2, tA3, lA3, rA3, tA4, lA4, rA4, tA5, lA5, rA5, tA6, lA6, rA6, tA7, lA7, rA7, tA8, tS, rS0, tS1, lS1, rS1, tS2, lS2, rS2, tS3, lS3, rS3, tS4, lS4, rS4, tS5, lS5, rS5, tS6, lS6, iB, iN, iG, iK, iR, cH, cF, cO, cA, cC, cT, cG, cM, cL, q0, c, Bool.true_eq_false, s82_105, s82_113, gT_wI, gR_wI, gL_wI, gS_wI, gU_wI, gI_wI, gJ_wI, gI_wJ, gJ_wJ, gR_wJ, gT_wJ, gL_wJ, gS_wJ, gU_wJ, gI_wR, gJ_wR, gR_wR, gT_wR, gL_wR, gS_wR, gU_wR, wI_wI, wJ_wJ, wR_wR, j_s, j_add, j_addL, j_addR, j_mulL, j_mulR, j_cl, j_clL, j_neg, j_negL, j_nn, j_lt, j_le, j_eq, j_ltL, j_ltR, j_leL, j_leR, j_eqL, j_eqR, j_m1, j_m1L, j_m1R, j_eqLL, j_ltLL, j_leLL, n_le0, n_le1, n_lt0, n_lt1, gc_v, gc_n, ↓reduceIte, and_true, true_and, and_self, or_self, or_false, false_or, not_false_eq_true, not_true_eq_false, false_and, and_false, Nat.reduceAdd, Nat.reduceEqDiff, Nat.reduceLeDiff, Nat.reduceLT]
    rfl
  · simp (disch := first | omega | assumption) only [hg.1, x_r2 hg, x_t2 hg, hσ, h145, tA, rA8, tLw, rA9, rA0, tA1, lA1, rA1, tA2, lA2, rA2, tA3, lA3, rA3, tA4, lA4, rA4, tA5, lA5, rA5, tA6, lA6, rA6, tA7, lA7, rA7, tA8, tS, rS0, tS1, lS1, rS1, tS2, lS2, rS2, tS3, lS3, rS3, tS4, lS4, rS4, tS5, lS5, rS5, tS6, lS6, iB, iN, iG, iK, iR, cH, cF, cO, cA, cC, cT, cG, cM, cL, q0, Bool.eq_false_iff.mpr c, Bool.false_eq_true, s82_113, gT_wI, gR_wI, gL_wI, gS_wI, gU_wI, gI_wI, gJ_wI, gI_wJ, gJ_wJ, gR_wJ, gT_wJ, gL_wJ, gS_wJ, gU_wJ, gI_wR, gJ_wR, gR_wR, gT_wR, gL_wR, gS_wR, gU_wR, wI_wI, wJ_wJ, wR_wR, j_s, j_add, j_addL, j_addR, j_mulL, j_mulR, j_cl, j_clL, j_neg, j_negL, j_nn, j_lt, j_le, j_eq, j_ltL, j_ltR, j_leL, j_leR, j_eqL, j_eqR, j_m1, j_m1L, j_m1R, j_eqLL, j_ltLL, j_leLL, n_le0, n_le1, n_lt0, n_lt1, gc_v, gc_n, ↓reduceIte, and_true, true_and, and_self, or_self, or_false, false_or, not_false_eq_true, not_true_eq_false, false_and, and_false, Nat.reduceAdd, Nat.reduceEqDiff, Nat.reduceLeDiff, Nat.reduceLT]
theorem x82a {D : gdD} {v s n : Int32} (hv : v < 0 ∨ Int32.ofNat (eN (dE D)) ≤ v) : XNo 82 [.int v, .int s, .int n] D 24 := by
  intro d h hd hi hD
  obtain ⟨a, σ, m, h145, hσ, hs, hx, hr, hm, hl, hE, ha, hT9⟩ := hi.nw hD
  have hg := hi.1
  have hz : 4 ≤ gS h := by have := hi.2.2.2.2.2.2.2.2.2.2; omega
  obtain ⟨d, rfl⟩ : ∃ e, d = e + 1 := ⟨d - 1, by omega⟩
  obtain ⟨⟨hA1, hA2, hS1⟩, ⟨tA, rA8, tLw, rA9⟩, ⟨rA0, tA1, lA1⟩, ⟨rA1, tA2, lA2⟩, ⟨rA2, tA3, lA3⟩, ⟨rA3, tA4, lA4⟩, ⟨rA4, tA5, lA5⟩, ⟨rA5, tA6, lA6⟩, ⟨rA6, tA7, lA7⟩, ⟨rA7, tA8⟩, tS, ⟨rS0, tS1, lS1⟩, ⟨rS1, tS2, lS2⟩, ⟨rS2, tS3, lS3⟩, ⟨rS3, tS4, lS4⟩, ⟨rS4, tS5, lS5⟩, ⟨rS5, tS6, lS6⟩⟩ := id hs
  obtain ⟨⟨hB, hN⟩, ⟨iB, iN⟩, iG, iK, iR, cH, cF, cO, cA, cC, cW, cT, cG, cM, cL⟩ := id hx
  rw [r82, s82_0]
  simp (disch := first | omega | assumption) only [hg.1, x_r2 hg, x_t2 hg, hσ, h145, tA, rA8, tLw, rA9, rA0, tA1, lA1, rA1, tA2, lA2, rA2, tA3, lA3, rA3, tA4, lA4, rA4, tA5, lA5, rA5, tA6, lA6, rA6, tA7, lA7, rA7, tA8, tS, rS0, tS1, lS1, rS1, tS2, lS2, rS2, tS3, lS3, rS3, tS4, lS4, rS4, tS5, lS5, rS5, tS6, lS6, iB, iN, iG, iK, iR, cH, cF, cO, cA, cC, cT, cG, cM, cL, sp64n hg hz hσ hs hx (d := d) (by omega) hv, gc_x, gx_n (k := 82) (pc := 2) (t := 24) rfl, gT_wI, gR_wI, gL_wI, gS_wI, gU_wI, gI_wI, gJ_wI, gI_wJ, gJ_wJ, gR_wJ, gT_wJ, gL_wJ, gS_wJ, gU_wJ, gI_wR, gJ_wR, gR_wR, gT_wR, gL_wR, gS_wR, gU_wR, wI_wI, wJ_wJ, wR_wR, j_s, j_add, j_addL, j_addR, j_mulL, j_mulR, j_cl, j_clL, j_neg, j_negL, j_nn, j_lt, j_le, j_eq, j_ltL, j_ltR, j_leL, j_leR, j_eqL, j_eqR, j_m1, j_m1L, j_m1R, j_eqLL, j_ltLL, j_leLL, n_le0, n_le1, n_lt0, n_lt1, gc_v, gc_n, ↓reduceIte, and_true, true_and, and_self, or_self, or_false, false_or, not_false_eq_true, not_true_eq_false, false_and, and_false, Nat.reduceAdd, Nat.reduceEqDiff, Nat.reduceLeDiff, Nat.reduceLT]
theorem x82b {D : gdD} {p : Nat} {s n : Int32} (hp : p < eN (dE D)) (hv : s < 0 ∨ ((1 : Int32) <<< (Int32.ofNat (eN (dE D)) &&& 31)) - 1 < s ∨ n < 0 ∨ 9999 < n) : XNo 82 [.int (Int32.ofNat p), .int s, .int n] D 25 := by
  intro d h hd hi hD
  obtain ⟨a, σ, m, h145, hσ, hs, hx, hr, hm, hl, hE, ha, hT9⟩ := hi.nw hD
  have hg := hi.1
  have hz : 4 ≤ gS h := by have := hi.2.2.2.2.2.2.2.2.2.2; omega
  obtain ⟨d, rfl⟩ : ∃ e, d = e + 1 := ⟨d - 1, by omega⟩
  obtain ⟨⟨hA1, hA2, hS1⟩, ⟨tA, rA8, tLw, rA9⟩, ⟨rA0, tA1, lA1⟩, ⟨rA1, tA2, lA2⟩, ⟨rA2, tA3, lA3⟩, ⟨rA3, tA4, lA4⟩, ⟨rA4, tA5, lA5⟩, ⟨rA5, tA6, lA6⟩, ⟨rA6, tA7, lA7⟩, ⟨rA7, tA8⟩, tS, ⟨rS0, tS1, lS1⟩, ⟨rS1, tS2, lS2⟩, ⟨rS2, tS3, lS3⟩, ⟨rS3, tS4, lS4⟩, ⟨rS4, tS5, lS5⟩, ⟨rS5, tS6, lS6⟩⟩ := id hs
  obtain ⟨⟨hB, hN⟩, ⟨iB, iN⟩, iG, iK, iR, cH, cF, cO, cA, cC, cW, cT, cG, cM, cL⟩ := id hx
  rw [r82, s82_0]
  by_cases a1 : s < 0 ∨ ((1 : Int32) <<< (Int32.ofNat (eN (dE D)) &&& 31)) - 1 < s
  · simp (disch := first | omega | assumption) only [hg.1, x_r2 hg, x_t2 hg, hσ, h145, tA, rA8, tLw, rA9, rA0, tA1, lA1, rA1, tA2, lA2, rA2, tA3, lA3, rA3, tA4, lA4, rA4, tA5, lA5, rA5, tA6, lA6, rA6, tA7, lA7, rA7, tA8, tS, rS0, tS1, lS1, rS1, tS2, lS2, rS2, tS3, lS3, rS3, tS4, lS4, rS4, tS5, lS5, rS5, tS6, lS6, iB, iN, iG, iK, iR, cH, cF, cO, cA, cC, cT, cG, cM, cL, sp64 hg hσ hs hx (d := d) (by omega) hp, sp53n hg hz (d := d) (by omega) a1, s82_5, gc_n, gc_x, gx_n (k := 82) (pc := 19) (t := 25) rfl, gT_wI, gR_wI, gL_wI, gS_wI, gU_wI, gI_wI, gJ_wI, gI_wJ, gJ_wJ, gR_wJ, gT_wJ, gL_wJ, gS_wJ, gU_wJ, gI_wR, gJ_wR, gR_wR, gT_wR, gL_wR, gS_wR, gU_wR, wI_wI, wJ_wJ, wR_wR, gc_v, gc_n, ↓reduceIte, and_true, true_and, and_self, or_self, or_false, false_or, not_false_eq_true, not_true_eq_false, false_and, and_false, Nat.reduceAdd, Nat.reduceEqDiff, Nat.reduceLeDiff, Nat.reduceLT]
  · have b1 := sp53 hg (d := d) (by omega) (fun z => a1 (Or.inl z)) (fun z => a1 (Or.inr z))
    have a2 : n < 0 ∨ 9999 < n := by
      rcases hv with z | z | z
      · exact absurd (Or.inl z) a1
      · exact absurd (Or.inr z) a1
      · exact z
    simp (disch := first | omega | assumption) only [hg.1, x_r2 hg, x_t2 hg, hσ, h145, tA, rA8, tLw, rA9, rA0, tA1, lA1, rA1, tA2, lA2, rA2, tA3, lA3, rA3, tA4, lA4, rA4, tA5, lA5, rA5, tA6, lA6, rA6, tA7, lA7, rA7, tA8, tS, rS0, tS1, lS1, rS1, tS2, lS2, rS2, tS3, lS3, rS3, tS4, lS4, rS4, tS5, lS5, rS5, tS6, lS6, iB, iN, iG, iK, iR, cH, cF, cO, cA, cC, cT, cG, cM, cL, sp64 hg hσ hs hx (d := d) (by omega) hp, b1, sp53n hg hz (d := d) (by omega) a2, s82_5, s82_22, gc_n, gc_x, gx_n (k := 82) (pc := 28) (t := 25) rfl, gT_wI, gR_wI, gL_wI, gS_wI, gU_wI, gI_wI, gJ_wI, gI_wJ, gJ_wJ, gR_wJ, gT_wJ, gL_wJ, gS_wJ, gU_wJ, gI_wR, gJ_wR, gR_wR, gT_wR, gL_wR, gS_wR, gU_wR, wI_wI, wJ_wJ, wR_wR, gc_v, gc_n, ↓reduceIte, and_true, true_and, and_self, or_self, or_false, false_or, not_false_eq_true, not_true_eq_false, false_and, and_false, Nat.reduceAdd, Nat.reduceEqDiff, Nat.reduceLeDiff, Nat.reduceLT]
theorem m265 {D : gdD} {p n : Nat} {s : Int32} (hp : p < eN (dE D)) (s0 : ¬ s < 0) (s1 : ¬ ((1 : Int32) <<< (Int32.ofNat (eN (dE D)) &&& 31)) - 1 < s) (hn : n ≤ 9999) : MOk 265 [.int (Int32.ofNat p), .int s, .int (Int32.ofNat n)] D (.int (vCh D p s n)) := by
  intro d h hd hi hD
  obtain ⟨d, rfl⟩ : ∃ e, d = e + 1 := ⟨d - 1, by omega⟩
  obtain ⟨hz, ez, hiz, z0, qz⟩ := hi.z
  have hm := hi.1
  have hmz := hiz.1
  refine ⟨hz, ?_, qz, z0⟩
  have e183 := sp183 hmz z0 (d := d) (by omega) 2 1
  have e239 := sp239 hiz z0 (d := d) (by omega) hp 1
  obtain ⟨m, hm4, hr⟩ := hD.2.1 (dW D) (Nat.le_refl _)
  obtain ⟨-, ⟨hB, hN⟩, ⟨iB, iN, iA⟩, -, -, -, i7, -⟩ := id hiz
  have s2 : ¬ ((1 : Int32) <<< (Int32.ofNat (eN (dE D)) &&& 31)) ≤ s := fun z => s1 ((shl_le (by omega) s).mp z)
  have n0 : ¬ 9999 < n := by omega
  have q0 := b_q0 (x := s) (k := p) (by omega)
  have K : ∀ b, b ≤ 999 → go gd_P0 d 265 60 [.ref 1231, .int (Int32.ofNat p), .int s, .int (Int32.ofNat n), .int (Int32.ofNat b)] [] hz = if decide (pS (dNow D) s (eN (dE D)) b ≤ n) = true then some (.inl (some (.int (if bt s p = true then jmin (Int32.ofNat b) (dNow D p) else 0))), hz) else go gd_P0 d 265 60 [.ref 1231, .int (Int32.ofNat p), .int s, .int (Int32.ofNat n), .int (Int32.ofNat b + (-1))] [] hz := by
    intro b hb
    have e266 := sp266 hiz hD (d := d) (by omega) s hb
    have sb := pS_le (dNow D) s b (eN (dE D))
    have sb2 : pS (dNow D) s (eN (dE D)) b ≤ 6993 := Nat.le_trans sb (Nat.le_trans (Nat.mul_le_mul hb hN) (by decide))
    rw [s265_60]
    simp only [hmz.t, e266, gc_v, ↓reduceIte]
    rw [s265_67]
    by_cases c2 : pS (dNow D) s (eN (dE D)) b ≤ n
    · rw [if_pos (by rw [j_le (by omega) (by omega)]; exact c2), if_pos (decide_eq_true c2)]
      by_cases c : bt s p = true
      · by_cases c3 : Int32.ofNat b ≤ dNow D p
        · have c4 : jmin (Int32.ofNat b) (dNow D p) = Int32.ofNat b := if_neg (Int32.not_lt.mpr c3)
          simp (disch := first | omega | assumption) only [hmz.t, m_r38 hmz, m_t38 hmz, m_l38 hmz, i7, q0, c, c3, c4, Bool.true_eq_false, Nat.zero_add, s265_113, gT_wI, gR_wI, gL_wI, gS_wI, gU_wI, gI_wI, gJ_wI, gI_wJ, gJ_wJ, gR_wJ, gT_wJ, gL_wJ, gS_wJ, gU_wJ, gI_wR, gJ_wR, gR_wR, gT_wR, gL_wR, gS_wR, gU_wR, wI_wI, wJ_wJ, wR_wR, j_s, j_add, j_addL, j_addR, j_mulL, j_mulR, j_cl, j_clL, j_neg, j_negL, j_nn, j_lt, j_le, j_eq, j_ltL, j_ltR, j_leL, j_leR, j_eqL, j_eqR, j_m1, j_m1L, j_m1R, j_eqLL, j_ltLL, j_leLL, n_le0, n_le1, n_lt0, n_lt1, gc_v, gc_n, ↓reduceIte, and_true, true_and, and_self, or_self, or_false, false_or, not_false_eq_true, not_true_eq_false, false_and, and_false, Nat.reduceAdd, Nat.reduceEqDiff, Nat.reduceLeDiff, Nat.reduceLT]
        · have c4 : jmin (Int32.ofNat b) (dNow D p) = dNow D p := if_pos (Int32.not_le.mp c3)
          simp (disch := first | omega | assumption) only [hmz.t, m_r38 hmz, m_t38 hmz, m_l38 hmz, i7, q0, c, c3, c4, Bool.true_eq_false, Nat.zero_add, s265_113, gT_wI, gR_wI, gL_wI, gS_wI, gU_wI, gI_wI, gJ_wI, gI_wJ, gJ_wJ, gR_wJ, gT_wJ, gL_wJ, gS_wJ, gU_wJ, gI_wR, gJ_wR, gR_wR, gT_wR, gL_wR, gS_wR, gU_wR, wI_wI, wJ_wJ, wR_wR, j_s, j_add, j_addL, j_addR, j_mulL, j_mulR, j_cl, j_clL, j_neg, j_negL, j_nn, j_lt, j_le, j_eq, j_ltL, j_ltR, j_leL, j_leR, j_eqL, j_eqR, j_m1, j_m1L, j_m1R, j_eqLL, j_ltLL, j_leLL, n_le0, n_le1, n_lt0, n_lt1, gc_v, gc_n, ↓reduceIte, and_true, true_and, and_self, or_self, or_false, false_or, not_false_eq_true, not_true_eq_false, false_and, and_false, Nat.reduceAdd, Nat.reduceEqDiff, Nat.reduceLeDiff, Nat.reduceLT]
      · simp (disch := first | omega | assumption) only [q0, Bool.eq_false_iff.mpr c, Bool.false_eq_true, gT_wI, gR_wI, gL_wI, gS_wI, gU_wI, gI_wI, gJ_wI, gI_wJ, gJ_wJ, gR_wJ, gT_wJ, gL_wJ, gS_wJ, gU_wJ, gI_wR, gJ_wR, gR_wR, gT_wR, gL_wR, gS_wR, gU_wR, wI_wI, wJ_wJ, wR_wR, j_s, j_add, j_addL, j_addR, j_mulL, j_mulR, j_cl, j_clL, j_neg, j_negL, j_nn, j_lt, j_le, j_eq, j_ltL, j_ltR, j_leL, j_leR, j_eqL, j_eqR, j_m1, j_m1L, j_m1R, j_eqLL, j_ltLL, j_leLL, n_le0, n_le1, n_lt0, n_lt1, gc_v, gc_n, ↓reduceIte, and_true, true_and, and_self, or_self, or_false, false_or, not_false_eq_true, not_true_eq_false, false_and, and_false, Nat.reduceAdd, Nat.reduceEqDiff, Nat.reduceLeDiff, Nat.reduceLT]
    · rw [if_neg (by rw [j_le (by omega) (by omega)]; exact c2), if_neg (by rw [decide_eq_false c2]; exact Bool.false_ne_true)]
  have L := lp_fi (fun j => go gd_P0 d 265 60 [.ref 1231, .int (Int32.ofNat p), .int s, .int (Int32.ofNat n), .int (Int32.ofNat (999 - j))] [] hz) (fun (b : Nat) => some (.inl (some (.int (if bt s p = true then jmin (Int32.ofNat b) (dNow D p) else 0))), hz)) (fun j => decide (pS (dNow D) s (eN (dE D)) (999 - j) ≤ n)) (fun j => 999 - j) 0 999 0 ?_ ?_
  · rw [r265, s265_0]
    simp only [hm.t, ez, ↓reduceIte]
    simp (disch := first | omega | assumption) only [hmz.t, e239, iN, s0, s2, n0, sp233 (d := d) (by omega), e183, i10, s265_11, s265_37, s265_45, s265_50, gT_wI, gR_wI, gL_wI, gS_wI, gU_wI, gI_wI, gJ_wI, gI_wJ, gJ_wJ, gR_wJ, gT_wJ, gL_wJ, gS_wJ, gU_wJ, gI_wR, gJ_wR, gR_wR, gT_wR, gL_wR, gS_wR, gU_wR, wI_wI, wJ_wJ, wR_wR, gc_v, gc_n, ↓reduceIte, and_true, true_and, and_self, or_self, or_false, false_or, not_false_eq_true, not_true_eq_false, false_and, and_false, Nat.reduceAdd, Nat.reduceEqDiff, Nat.reduceLeDiff, Nat.reduceLT, j_neg, j_ltL, n_lt0]
    exact L
  · intro j j0 j1
    try dsimp only
    rw [K (999 - j) (by omega)]
    split
    · rfl
    · rw [show 999 - j = (999 - (j + 1)) + 1 by omega, j_dec]
  · try dsimp only
    rw [K _ (by omega), if_pos (decide_eq_true (by rw [show 999 - (0 + 999) = 0 by omega, pS_0]; omega))]
theorem m265a {D : gdD} {v s n : Int32} (hv : v < 0 ∨ Int32.ofNat (eN (dE D)) ≤ v) : MNo 265 [.int v, .int s, .int n] D 24 1 (.int 0) := by
  intro d h hd hi hD
  obtain ⟨d, rfl⟩ : ∃ e, d = e + 1 := ⟨d - 1, by omega⟩
  obtain ⟨hz, ez, hiz, z0, qz⟩ := hi.z
  have hm := hi.1
  have hmz := hiz.1
  have e := sp239n hiz z0 (d := d) (by omega) hv (c := 1) (by decide)
  rw [r265, s265_0]
  simp only [hm.t, ez, ↓reduceIte]
  refine Eq.trans (congrArg (gc gd_P0 d 265 _ _ _ _) e) ?_
  rw [gc_v, s265_11]
  subst ez
  rw [mthr_z]
  rw [if_pos rfl, s265_53]
theorem m265b {D : gdD} {p : Nat} {s n : Int32} (hp : p < eN (dE D)) (hv : s < 0 ∨ ((1 : Int32) <<< (Int32.ofNat (eN (dE D)) &&& 31)) - 1 < s ∨ n < 0 ∨ 9999 < n) : MNo 265 [.int (Int32.ofNat p), .int s, .int n] D 25 2 (.int 0) := by
  intro d h hd hi hD
  obtain ⟨d, rfl⟩ : ∃ e, d = e + 1 := ⟨d - 1, by omega⟩
  obtain ⟨hz, ez, hiz, z0, qz⟩ := hi.z
  have hm := hi.1
  have hmz := hiz.1
  have e183 := sp183n hmz z0 (d := d) (by omega) (c := 2) (by decide) 25 (by omega) (by omega)
  have e239 := sp239 hiz z0 (d := d) (by omega) hp 1
  obtain ⟨-, ⟨hB, hN⟩, ⟨iB, iN, iA⟩, -⟩ := id hiz
  have fin : go gd_P0 d 265 44 [.ref 1231, .int (Int32.ofNat p), .int s, .int n, .null] [.ref 1231] hz = some (.inl (some (.int 0)), mthr 25 2 h) := by
    rw [s265_44, s265_45]
    simp only [hmz.t, ↓reduceIte]
    refine Eq.trans (congrArg (gc gd_P0 d 265 _ _ _ _) e183) ?_
    rw [gc_v, s265_50, if_pos rfl, s265_53]
    subst ez
    rw [mthr_z]
  rw [r265, s265_0]
  simp only [hm.t, ez, e239, gc_v, s265_11, i10, hmz.t, iN, ↓reduceIte]
  by_cases a1 : s < 0
  · simp only [a1, ↓reduceIte]; exact fin
  by_cases a2 : ((1 : Int32) <<< (Int32.ofNat (eN (dE D)) &&& 31)) ≤ s
  · simp only [a1, a2, ↓reduceIte]; exact fin
  have a2' : ¬ ((1 : Int32) <<< (Int32.ofNat (eN (dE D)) &&& 31)) - 1 < s := fun z => a2 ((shl_le (by omega) s).mpr z)
  simp only [a1, a2, ↓reduceIte, sp233 (d := d) (by omega), gc_v, s265_37]
  by_cases a3 : n < 0
  · simp only [a3, ↓reduceIte]; exact fin
  have a4 := ((hv.resolve_left a1).resolve_left a2').resolve_left a3
  simp only [a3, a4, ↓reduceIte]; exact fin

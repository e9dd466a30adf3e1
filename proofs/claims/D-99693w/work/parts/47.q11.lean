/-! ===== PLANES, CHAIRS ===== -/
set_option maxRecDepth 100000
def hb (own other v w : Int32) : Int32 := if own = other then (if own = 1 then v else 0) else if own = 0 then w else -w
theorem sp81 {h : gd_H} {d : Nat} (hd : 1 ≤ d) (a b v w : Int32) : run gd_P0 d 81 [.int a, .int b, .int v, .int w] h = some (.inl (some (.int (hb a b v w))), h) := by
  obtain ⟨d, rfl⟩ : ∃ e, d = e + 1 := ⟨d - 1, by omega⟩
  rw [r81, s81_0]
  unfold hb
  by_cases c : a = b
  · rw [if_pos c, if_pos c]
    by_cases c2 : a = 1
    · rw [if_pos c2, if_pos c2, s81_28]
    · rw [if_neg c2, if_neg c2, s81_28]
  · rw [if_neg c, if_neg c]
    by_cases c2 : a = 0
    · rw [if_pos c2, if_pos c2, s81_28]
    · rw [if_neg c2, if_neg c2, s81_28]
theorem sp264 {h : gd_H} {d : Nat} (hd : 1 ≤ d) {a b : Nat} (ha : a ≤ 1) (hb2 : b ≤ 1) (v w : Int32) : run gd_P0 d 264 [.int (Int32.ofNat a), .int (Int32.ofNat b), .int v, .int w] h = some (.inl (some (.int (hb (Int32.ofNat a) (Int32.ofNat b) v w))), h) := by
  obtain ⟨d, rfl⟩ : ∃ e, d = e + 1 := ⟨d - 1, by omega⟩
  rw [r264, s264_0]
  unfold hb
  have h1 : a = 0 ∨ a = 1 := by omega
  have h2 : b = 0 ∨ b = 1 := by omega
  rcases h1 with rfl | rfl <;> rcases h2 with rfl | rfl
  all_goals simp (disch := first | omega | assumption) only [s264_27, gT_wI, gR_wI, gL_wI, gS_wI, gU_wI, gI_wI, gJ_wI, gI_wJ, gJ_wJ, gR_wJ, gT_wJ, gL_wJ, gS_wJ, gU_wJ, gI_wR, gJ_wR, gR_wR, gT_wR, gL_wR, gS_wR, gU_wR, wI_wI, wJ_wJ, wR_wR, j_s, j_add, j_addL, j_addR, j_mulL, j_mulR, j_cl, j_clL, j_neg, j_negL, j_nn, j_lt, j_le, j_eq, j_ltL, j_ltR, j_leL, j_leR, j_eqL, j_eqR, j_m1, j_m1L, j_m1R, j_eqLL, j_ltLL, j_leLL, n_le0, n_le1, n_lt0, n_lt1, gc_v, gc_n, ↓reduceIte, and_true, true_and, and_self, or_self, or_false, false_or, not_false_eq_true, not_true_eq_false, false_and, and_false, Nat.reduceAdd, Nat.reduceEqDiff, Nat.reduceLeDiff, Nat.reduceLT, Nat.reduceDiv, Nat.reduceMul, Nat.reduceSub, Nat.reduceMod, j_divR, j_mulR, j_mulL, j_subL, j_subR, j_sub]
def pOk (v w : Int32) (k : Nat) : Bool := !decide (hb (Int32.ofNat (k / 2)) (Int32.ofNat (k % 2)) v w < hb (Int32.ofNat (1 - k / 2)) (Int32.ofNat (k % 2)) v w) && !decide (hb (Int32.ofNat (k % 2)) (Int32.ofNat (k / 2)) v w < hb (Int32.ofNat (1 - k % 2)) (Int32.ofNat (k / 2)) v w)
def pBo (v w : Int32) (k : Nat) : Int32 := hb (Int32.ofNat (k / 2)) (Int32.ofNat (k % 2)) v w + hb (Int32.ofNat (k % 2)) (Int32.ofNat (k / 2)) v w
/-- how many, the first, what both have: from the highest place down -/
def pPn (v w : Int32) (k : Nat) (x : Int32 × Int32 × Int32) : Int32 × Int32 × Int32 := if pOk v w k = true then (x.1 + 1, Int32.ofNat (10 * (k / 2) + k % 2), pBo v w k) else x
def pPx (v w : Int32) : Int32 × Int32 × Int32 := pPn v w 0 (pPn v w 1 (pPn v w 2 (pPn v w 3 (0, -1, 0))))
def pMn (v w : Int32) (k : Nat) (x : Int32 × Int32) : Int32 × Int32 := if pOk v w k = true then (x.1 + 1, if x.2 = -1 then Int32.ofNat (10 * (k / 2) + k % 2) else x.2) else x
def pMx (v w : Int32) : Int32 × Int32 := pMn v w 3 (pMn v w 2 (pMn v w 1 (pMn v w 0 (0, -1))))
def vPlan (v w : Int32) (a : Nat) : Int32 := if a = 0 then (pPx v w).1 else if a = 1 then (pPx v w).2.1 else (pPx v w).2.2
theorem pPM (v w : Int32) : (pMx v w).1 = (pPx v w).1 ∧ (pMx v w).2 = (pPx v w).2.1 ∧ (((pPx v w).2.1 = -1 ∧ (pPx v w).2.2 = 0) ∨ ∃ k, k < 4 ∧ (pPx v w).2.1 = Int32.ofNat (10 * (k / 2) + k % 2) ∧ (pPx v w).2.2 = pBo v w k) := by
  unfold pMx pPx pMn pPn
  cases pOk v w 0 <;> cases pOk v w 1 <;> cases pOk v w 2 <;> cases pOk v w 3
  all_goals
    refine ⟨by rfl, by rfl, ?_⟩
    first
      | exact Or.inl ⟨by rfl, by rfl⟩
      | exact Or.inr ⟨0, by decide, by rfl, by rfl⟩
      | exact Or.inr ⟨1, by decide, by rfl, by rfl⟩
      | exact Or.inr ⟨2, by decide, by rfl, by rfl⟩
      | exact Or.inr ⟨3, by decide, by rfl, by rfl⟩
theorem c4 {k : Nat} (h : k < 4) : k = 0 ∨ k = 1 ∨ k = 2 ∨ k = 3 := by omega
theorem x80 {D : gdD} {v w a : Nat} (hv : v ≤ 99) (hw : w ≤ 99) (ha2 : a ≤ 2) : XOk 80 [.int (Int32.ofNat v), .int (Int32.ofNat w), .int (Int32.ofNat a)] D (.int (vPlan (Int32.ofNat v) (Int32.ofNat w) a)) := by
  intro d h hd hi hD
  obtain ⟨a9, σ, m, h145, hσ, hs, hx, hr, hm, hl, hE, ha9, hT9⟩ := hi.nw hD
  have hg := hi.1
  have hz : 4 ≤ gS h := by have := hi.2.2.2.2.2.2.2.2.2.2; omega
  obtain ⟨d, rfl⟩ : ∃ e, d = e + 1 := ⟨d - 1, by omega⟩
  obtain ⟨⟨hA1, hA2, hS1⟩, ⟨tA, rA8, tLw, rA9⟩, ⟨rA0, tA1, lA1⟩, ⟨rA1, tA2, lA2⟩, ⟨rA2, tA3, lA3⟩, ⟨rA3, tA4, lA4⟩, ⟨rA4, tA5, lA5⟩, ⟨rA5, tA6, lA6⟩, ⟨rA6, tA7, lA7⟩, ⟨rA7, tA8⟩, tS, ⟨rS0, tS1, lS1⟩, ⟨rS1, tS2, lS2⟩, ⟨rS2, tS3, lS3⟩, ⟨rS3, tS4, lS4⟩, ⟨rS4, tS5, lS5⟩, ⟨rS5, tS6, lS6⟩⟩ := id hs
  obtain ⟨⟨hB, hN⟩, ⟨iB, iN⟩, iG, iK, iR, cH, cF, cO, cA, cC, cW, cT, cG, cM, cL⟩ := id hx
  refine ⟨h, ?_, XQ.refl h⟩
  have eA := sp53 hg (d := d) (by omega) (v := Int32.ofNat v) (lo := 0) (hi := 99) (by rw [j_neg (by omega)]; exact fun z => z) (by rw [j_ltL (by omega) (by omega)]; omega)
  have eB := sp53 hg (d := d) (by omega) (v := Int32.ofNat w) (lo := 0) (hi := 99) (by rw [j_neg (by omega)]; exact fun z => z) (by rw [j_ltL (by omega) (by omega)]; omega)
  have eC := sp53 hg (d := d) (by omega) (v := Int32.ofNat a) (lo := 0) (hi := 2) (by rw [j_neg (by omega)]; exact fun z => z) (by rw [j_ltL (by omega) (by omega)]; omega)
  have st : ∀ (k : Nat) (x : Int32 × Int32 × Int32), k < 4 → go gd_P0 d 80 35 [.null, .int (Int32.ofNat v), .int (Int32.ofNat w), .int (Int32.ofNat a), .int x.1, .int x.2.1, .int x.2.2, .int (Int32.ofNat k), .null, .null] [] h = go gd_P0 d 80 35 [.null, .int (Int32.ofNat v), .int (Int32.ofNat w), .int (Int32.ofNat a), .int (pPn (Int32.ofNat v) (Int32.ofNat w) k x).1, .int (pPn (Int32.ofNat v) (Int32.ofNat w) k x).2.1, .int (pPn (Int32.ofNat v) (Int32.ofNat w) k x).2.2, .int (Int32.ofNat k + (-1)), .null, .null] [] h := by
    intro k x hk
    generalize Int32.ofNat v = V
    generalize Int32.ofNat w = W
    rw [s80_35]
    unfold pPn pOk pBo
    rcases c4 hk with rfl | rfl | rfl | rfl
    all_goals
      simp (disch := first | omega | assumption) only [sp81 (d := d) (by omega), s80_63, gT_wI, gR_wI, gL_wI, gS_wI, gU_wI, gI_wI, gJ_wI, gI_wJ, gJ_wJ, gR_wJ, gT_wJ, gL_wJ, gS_wJ, gU_wJ, gI_wR, gJ_wR, gR_wR, gT_wR, gL_wR, gS_wR, gU_wR, wI_wI, wJ_wJ, wR_wR, j_s, j_add, j_addL, j_addR, j_mulL, j_mulR, j_cl, j_clL, j_neg, j_negL, j_nn, j_lt, j_le, j_eq, j_ltL, j_ltR, j_leL, j_leR, j_eqL, j_eqR, j_m1, j_m1L, j_m1R, j_eqLL, j_ltLL, j_leLL, n_le0, n_le1, n_lt0, n_lt1, gc_v, gc_n, ↓reduceIte, and_true, true_and, and_self, or_self, or_false, false_or, not_false_eq_true, not_true_eq_false, false_and, and_false, Nat.reduceAdd, Nat.reduceEqDiff, Nat.reduceLeDiff, Nat.reduceLT, Nat.reduceDiv, Nat.reduceMul, Nat.reduceSub, Nat.reduceMod, j_divR, j_mulR, j_mulL, j_subL, j_subR, j_sub]
      rw [s80_72]
      split
      next c1 => simp (disch := first | omega | assumption) only [c1, s80_135, decide_true, decide_false, Bool.not_true, Bool.not_false, Bool.false_eq_true, Bool.true_and, Bool.false_and, Bool.and_true, Bool.and_false, Int32.or_zero, gT_wI, gR_wI, gL_wI, gS_wI, gU_wI, gI_wI, gJ_wI, gI_wJ, gJ_wJ, gR_wJ, gT_wJ, gL_wJ, gS_wJ, gU_wJ, gI_wR, gJ_wR, gR_wR, gT_wR, gL_wR, gS_wR, gU_wR, wI_wI, wJ_wJ, wR_wR, j_s, j_add, j_addL, j_addR, j_mulL, j_mulR, j_cl, j_clL, j_neg, j_negL, j_nn, j_lt, j_le, j_eq, j_ltL, j_ltR, j_leL, j_leR, j_eqL, j_eqR, j_m1, j_m1L, j_m1R, j_eqLL, j_ltLL, j_leLL, n_le0, n_le1, n_lt0, n_lt1, gc_v, gc_n, ↓reduceIte, and_true, true_and, and_self, or_self, or_false, false_or, not_false_eq_true, not_true_eq_false, false_and, and_false, Nat.reduceAdd, Nat.reduceEqDiff, Nat.reduceLeDiff, Nat.reduceLT, Nat.reduceDiv, Nat.reduceMul, Nat.reduceSub, Nat.reduceMod, j_divR, j_mulR, j_mulL, j_subL, j_subR, j_sub]
      next c1 =>
        simp (disch := first | omega | assumption) only [c1, sp81 (d := d) (by omega), s80_86, s80_95, decide_true, decide_false, Bool.not_true, Bool.not_false, Bool.false_eq_true, Bool.true_and, Bool.false_and, Bool.and_true, Bool.and_false, Int32.or_zero, gT_wI, gR_wI, gL_wI, gS_wI, gU_wI, gI_wI, gJ_wI, gI_wJ, gJ_wJ, gR_wJ, gT_wJ, gL_wJ, gS_wJ, gU_wJ, gI_wR, gJ_wR, gR_wR, gT_wR, gL_wR, gS_wR, gU_wR, wI_wI, wJ_wJ, wR_wR, j_s, j_add, j_addL, j_addR, j_mulL, j_mulR, j_cl, j_clL, j_neg, j_negL, j_nn, j_lt, j_le, j_eq, j_ltL, j_ltR, j_leL, j_leR, j_eqL, j_eqR, j_m1, j_m1L, j_m1R, j_eqLL, j_ltLL, j_leLL, n_le0, n_le1, n_lt0, n_lt1, gc_v, gc_n, ↓reduceIte, and_true, true_and, and_self, or_self, or_false, false_or, not_false_eq_true, not_true_eq_false, false_and, and_false, Nat.reduceAdd, Nat.reduceEqDiff, Nat.reduceLeDiff, Nat.reduceLT, Nat.reduceDiv, Nat.reduceMul, Nat.reduceSub, Nat.reduceMod, j_divR, j_mulR, j_mulL, j_subL, j_subR, j_sub]
        split
        next c2 => simp (disch := first | omega | assumption) only [Int32.not_lt.mpr c2, sp81 (d := d) (by omega), s80_123, s80_132, s80_135, decide_true, decide_false, Bool.not_true, Bool.not_false, Bool.false_eq_true, Bool.true_and, Bool.false_and, Bool.and_true, Bool.and_false, Int32.or_zero, gT_wI, gR_wI, gL_wI, gS_wI, gU_wI, gI_wI, gJ_wI, gI_wJ, gJ_wJ, gR_wJ, gT_wJ, gL_wJ, gS_wJ, gU_wJ, gI_wR, gJ_wR, gR_wR, gT_wR, gL_wR, gS_wR, gU_wR, wI_wI, wJ_wJ, wR_wR, j_s, j_add, j_addL, j_addR, j_mulL, j_mulR, j_cl, j_clL, j_neg, j_negL, j_nn, j_lt, j_le, j_eq, j_ltL, j_ltR, j_leL, j_leR, j_eqL, j_eqR, j_m1, j_m1L, j_m1R, j_eqLL, j_ltLL, j_leLL, n_le0, n_le1, n_lt0, n_lt1, gc_v, gc_n, ↓reduceIte, and_true, true_and, and_self, or_self, or_false, false_or, not_false_eq_true, not_true_eq_false, false_and, and_false, Nat.reduceAdd, Nat.reduceEqDiff, Nat.reduceLeDiff, Nat.reduceLT, Nat.reduceDiv, Nat.reduceMul, Nat.reduceSub, Nat.reduceMod, j_divR, j_mulR, j_mulL, j_subL, j_subR, j_sub]
        next c2 => first | exact absurd (Int32.not_le.mp c2) c1 | simp (disch := first | omega | assumption) only [Int32.not_le.mp c2, s80_135, decide_true, decide_false, Bool.not_true, Bool.not_false, Bool.false_eq_true, Bool.true_and, Bool.false_and, Bool.and_true, Bool.and_false, Int32.or_zero, gT_wI, gR_wI, gL_wI, gS_wI, gU_wI, gI_wI, gJ_wI, gI_wJ, gJ_wJ, gR_wJ, gT_wJ, gL_wJ, gS_wJ, gU_wJ, gI_wR, gJ_wR, gR_wR, gT_wR, gL_wR, gS_wR, gU_wR, wI_wI, wJ_wJ, wR_wR, j_s, j_add, j_addL, j_addR, j_mulL, j_mulR, j_cl, j_clL, j_neg, j_negL, j_nn, j_lt, j_le, j_eq, j_ltL, j_ltR, j_leL, j_leR, j_eqL, j_eqR, j_m1, j_m1L, j_m1R, j_eqLL, j_ltLL, j_leLL, n_le0, n_le1, n_lt0, n_lt1, gc_v, gc_n, ↓reduceIte, and_true, true_and, and_self, or_self, or_false, false_or, not_false_eq_true, not_true_eq_false, false_and, and_false, Nat.reduceAdd, Nat.reduceEqDiff, Nat.reduceLeDiff, Nat.reduceLT, Nat.reduceDiv, Nat.reduceMul, Nat.reduceSub, Nat.reduceMod, j_divR, j_mulR, j_mulL, j_subL, j_subR, j_sub]
  rw [r80, s80_0]
  simp (disch := first | omega | assumption) only [hg.1, eA, eB, eC, s80_8, s80_16, s80_23, gT_wI, gR_wI, gL_wI, gS_wI, gU_wI, gI_wI, gJ_wI, gI_wJ, gJ_wJ, gR_wJ, gT_wJ, gL_wJ, gS_wJ, gU_wJ, gI_wR, gJ_wR, gR_wR, gT_wR, gL_wR, gS_wR, gU_wR, wI_wI, wJ_wJ, wR_wR, j_s, j_add, j_addL, j_addR, j_mulL, j_mulR, j_cl, j_clL, j_neg, j_negL, j_nn, j_lt, j_le, j_eq, j_ltL, j_ltR, j_leL, j_leR, j_eqL, j_eqR, j_m1, j_m1L, j_m1R, j_eqLL, j_ltLL, j_leLL, n_le0, n_le1, n_lt0, n_lt1, gc_v, gc_n, ↓reduceIte, and_true, true_and, and_self, or_self, or_false, false_or, not_false_eq_true, not_true_eq_false, false_and, and_false, Nat.reduceAdd, Nat.reduceEqDiff, Nat.reduceLeDiff, Nat.reduceLT]
  refine Eq.trans (st 3 (0, -1, 0) (by decide)) ?_
  refine Eq.trans (st 2 _ (by decide)) ?_
  refine Eq.trans (st 1 _ (by decide)) ?_
  refine Eq.trans (st 0 _ (by decide)) ?_
  rw [s80_35, if_pos (by decide)]
  unfold vPlan pPx
  rcases c03 ha2 with rfl | rfl | rfl
  all_goals simp (disch := first | omega | assumption) only [s80_162, gT_wI, gR_wI, gL_wI, gS_wI, gU_wI, gI_wI, gJ_wI, gI_wJ, gJ_wJ, gR_wJ, gT_wJ, gL_wJ, gS_wJ, gU_wJ, gI_wR, gJ_wR, gR_wR, gT_wR, gL_wR, gS_wR, gU_wR, wI_wI, wJ_wJ, wR_wR, j_s, j_add, j_addL, j_addR, j_mulL, j_mulR, j_cl, j_clL, j_neg, j_negL, j_nn, j_lt, j_le, j_eq, j_ltL, j_ltR, j_leL, j_leR, j_eqL, j_eqR, j_m1, j_m1L, j_m1R, j_eqLL, j_ltLL, j_leLL, n_le0, n_le1, n_lt0, n_lt1, gc_v, gc_n, ↓reduceIte, and_true, true_and, and_self, or_self, or_false, false_or, not_false_eq_true, not_true_eq_false, false_and, and_false, Nat.reduceAdd, Nat.reduceEqDiff, Nat.reduceLeDiff, Nat.reduceLT]
theorem x80a {D : gdD} {v v2 v3 : Int32} (hv : v < 0 ∨ 99 < v) : XNo 80 [.int v, .int v2, .int v3] D 25 := by
  intro d h hd hi hD
  obtain ⟨a, σ, m, h145, hσ, hs, hx, hr, hm, hl, hE, ha, hT9⟩ := hi.nw hD
  have hg := hi.1
  have hz : 4 ≤ gS h := by have := hi.2.2.2.2.2.2.2.2.2.2; omega
  obtain ⟨d, rfl⟩ : ∃ e, d = e + 1 := ⟨d - 1, by omega⟩
  obtain ⟨⟨hA1, hA2, hS1⟩, ⟨tA, rA8, tLw, rA9⟩, ⟨rA0, tA1, lA1⟩, ⟨rA1, tA2, lA2⟩, ⟨rA2, tA3, lA3⟩, ⟨rA3, tA4, lA4⟩, ⟨rA4, tA5, lA5⟩, ⟨rA5, tA6, lA6⟩, ⟨rA6, tA7, lA7⟩, ⟨rA7, tA8⟩, tS, ⟨rS0, tS1, lS1⟩, ⟨rS1, tS2, lS2⟩, ⟨rS2, tS3, lS3⟩, ⟨rS3, tS4, lS4⟩, ⟨rS4, tS5, lS5⟩, ⟨rS5, tS6, lS6⟩⟩ := id hs
  obtain ⟨⟨hB, hN⟩, ⟨iB, iN⟩, iG, iK, iR, cH, cF, cO, cA, cC, cW, cT, cG, cM, cL⟩ := id hx
  rw [r80, s80_0]
  simp (disch := first | omega | assumption) only [hg.1, hσ, h145, tA, rA8, tLw, rA9, rA0, tA1, lA1, rA1, tA2, lA2, rA2, tA3, lA3, rA3, tA4, lA4, rA4, tA5, lA5, rA5, tA6, lA6, rA6, tA7, lA7, rA7, tA8, tS, rS0, tS1, lS1, rS1, tS2, lS2, rS2, tS3, lS3, rS3, tS4, lS4, rS4, tS5, lS5, rS5, tS6, lS6, iB, iN, iG, iK, iR, cH, cF, cO, cA, cC, cT, cG, cM, cL, sp53n hg hz (d := d) (by omega) hv, gc_x, gx_n (k := 80) (pc := 5) (t := 25) rfl, gT_wI, gR_wI, gL_wI, gS_wI, gU_wI, gI_wI, gJ_wI, gI_wJ, gJ_wJ, gR_wJ, gT_wJ, gL_wJ, gS_wJ, gU_wJ, gI_wR, gJ_wR, gR_wR, gT_wR, gL_wR, gS_wR, gU_wR, wI_wI, wJ_wJ, wR_wR, j_s, j_add, j_addL, j_addR, j_mulL, j_mulR, j_cl, j_clL, j_neg, j_negL, j_nn, j_lt, j_le, j_eq, j_ltL, j_ltR, j_leL, j_leR, j_eqL, j_eqR, j_m1, j_m1L, j_m1R, j_eqLL, j_ltLL, j_leLL, n_le0, n_le1, n_lt0, n_lt1, gc_v, gc_n, ↓reduceIte, and_true, true_and, and_self, or_self, or_false, false_or, not_false_eq_true, not_true_eq_false, false_and, and_false, Nat.reduceAdd, Nat.reduceEqDiff, Nat.reduceLeDiff, Nat.reduceLT]
theorem x80b {D : gdD} {v v2 v3 : Int32} (l1 : ¬ v < 0) (u1 : ¬ 99 < v) (hv : v2 < 0 ∨ 99 < v2) : XNo 80 [.int v, .int v2, .int v3] D 25 := by
  intro d h hd hi hD
  obtain ⟨a, σ, m, h145, hσ, hs, hx, hr, hm, hl, hE, ha, hT9⟩ := hi.nw hD
  have hg := hi.1
  have hz : 4 ≤ gS h := by have := hi.2.2.2.2.2.2.2.2.2.2; omega
  obtain ⟨d, rfl⟩ : ∃ e, d = e + 1 := ⟨d - 1, by omega⟩
  obtain ⟨⟨hA1, hA2, hS1⟩, ⟨tA, rA8, tLw, rA9⟩, ⟨rA0, tA1, lA1⟩, ⟨rA1, tA2, lA2⟩, ⟨rA2, tA3, lA3⟩, ⟨rA3, tA4, lA4⟩, ⟨rA4, tA5, lA5⟩, ⟨rA5, tA6, lA6⟩, ⟨rA6, tA7, lA7⟩, ⟨rA7, tA8⟩, tS, ⟨rS0, tS1, lS1⟩, ⟨rS1, tS2, lS2⟩, ⟨rS2, tS3, lS3⟩, ⟨rS3, tS4, lS4⟩, ⟨rS4, tS5, lS5⟩, ⟨rS5, tS6, lS6⟩⟩ := id hs
  obtain ⟨⟨hB, hN⟩, ⟨iB, iN⟩, iG, iK, iR, cH, cF, cO, cA, cC, cW, cT, cG, cM, cL⟩ := id hx
  rw [r80, s80_0]
  simp (disch := first | omega | assumption) only [hg.1, hσ, h145, tA, rA8, tLw, rA9, rA0, tA1, lA1, rA1, tA2, lA2, rA2, tA3, lA3, rA3, tA4, lA4, rA4, tA5, lA5, rA5, tA6, lA6, rA6, tA7, lA7, rA7, tA8, tS, rS0, tS1, lS1, rS1, tS2, lS2, rS2, tS3, lS3, rS3, tS4, lS4, rS4, tS5, lS5, rS5, tS6, lS6, iB, iN, iG, iK, iR, cH, cF, cO, cA, cC, cT, cG, cM, cL, sp53 hg (d := d) (by omega) l1 u1, s80_8, sp53n hg hz (d := d) (by omega) hv, gc_x, gx_n (k := 80) (pc := 13) (t := 25) rfl, gT_wI, gR_wI, gL_wI, gS_wI, gU_wI, gI_wI, gJ_wI, gI_wJ, gJ_wJ, gR_wJ, gT_wJ, gL_wJ, gS_wJ, gU_wJ, gI_wR, gJ_wR, gR_wR, gT_wR, gL_wR, gS_wR, gU_wR, wI_wI, wJ_wJ, wR_wR, j_s, j_add, j_addL, j_addR, j_mulL, j_mulR, j_cl, j_clL, j_neg, j_negL, j_nn, j_lt, j_le, j_eq, j_ltL, j_ltR, j_leL, j_leR, j_eqL, j_eqR, j_m1, j_m1L, j_m1R, j_eqLL, j_ltLL, j_leLL, n_le0, n_le1, n_lt0, n_lt1, gc_v, gc_n, ↓reduceIte, and_true, true_and, and_self, or_self, or_false, false_or, not_false_eq_true, not_true_eq_false, false_and, and_false, Nat.reduceAdd, Nat.reduceEqDiff, Nat.reduceLeDiff, Nat.reduceLT]
theorem x80c {D : gdD} {v v2 v3 : Int32} (l1 : ¬ v < 0) (u1 : ¬ 99 < v) (l2 : ¬ v2 < 0) (u2 : ¬ 99 < v2) (hv : v3 < 0 ∨ 2 < v3) : XNo 80 [.int v, .int v2, .int v3] D 25 := by
  intro d h hd hi hD
  obtain ⟨a, σ, m, h145, hσ, hs, hx, hr, hm, hl, hE, ha, hT9⟩ := hi.nw hD
  have hg := hi.1
  have hz : 4 ≤ gS h := by have := hi.2.2.2.2.2.2.2.2.2.2; omega
  obtain ⟨d, rfl⟩ : ∃ e, d = e + 1 := ⟨d - 1, by omega⟩
  obtain ⟨⟨hA1, hA2, hS1⟩, ⟨tA, rA8, tLw, rA9⟩, ⟨rA0, tA1, lA1⟩, ⟨rA1, tA2, lA2⟩, ⟨rA2, tA3, lA3⟩, ⟨rA3, tA4, lA4⟩, ⟨rA4, tA5, lA5⟩, ⟨rA5, tA6, lA6⟩, ⟨rA6, tA7, lA7⟩, ⟨rA7, tA8⟩, tS, ⟨rS0, tS1, lS1⟩, ⟨rS1, tS2, lS2⟩, ⟨rS2, tS3, lS3⟩, ⟨rS3, tS4, lS4⟩, ⟨rS4, tS5, lS5⟩, ⟨rS5, tS6, lS6⟩⟩ := id hs
  obtain ⟨⟨hB, hN⟩, ⟨iB, iN⟩, iG, iK, iR, cH, cF, cO, cA, cC, cW, cT, cG, cM, cL⟩ := id hx
  rw [r80, s80_0]
  simp (disch := first | omega | assumption) only [hg.1, hσ, h145, tA, rA8, tLw, rA9, rA0, tA1, lA1, rA1, tA2, lA2, rA2, tA3, lA3, rA3, tA4, lA4, rA4, tA5, lA5, rA5, tA6, lA6, rA6, tA7, lA7, rA7, tA8, tS, rS0, tS1, lS1, rS1, tS2, lS2, rS2, tS3, lS3, rS3, tS4, lS4, rS4, tS5, lS5, rS5, tS6, lS6, iB, iN, iG, iK, iR, cH, cF, cO, cA, cC, cT, cG, cM, cL, sp53 hg (d := d) (by omega) l1 u1, s80_8, sp53 hg (d := d) (by omega) l2 u2, s80_16, sp53n hg hz (d := d) (by omega) hv, gc_x, gx_n (k := 80) (pc := 20) (t := 25) rfl, gT_wI, gR_wI, gL_wI, gS_wI, gU_wI, gI_wI, gJ_wI, gI_wJ, gJ_wJ, gR_wJ, gT_wJ, gL_wJ, gS_wJ, gU_wJ, gI_wR, gJ_wR, gR_wR, gT_wR, gL_wR, gS_wR, gU_wR, wI_wI, wJ_wJ, wR_wR, j_s, j_add, j_addL, j_addR, j_mulL, j_mulR, j_cl, j_clL, j_neg, j_negL, j_nn, j_lt, j_le, j_eq, j_ltL, j_ltR, j_leL, j_leR, j_eqL, j_eqR, j_m1, j_m1L, j_m1R, j_eqLL, j_ltLL, j_leLL, n_le0, n_le1, n_lt0, n_lt1, gc_v, gc_n, ↓reduceIte, and_true, true_and, and_self, or_self, or_false, false_or, not_false_eq_true, not_true_eq_false, false_and, and_false, Nat.reduceAdd, Nat.reduceEqDiff, Nat.reduceLeDiff, Nat.reduceLT]
theorem m263 {D : gdD} {v w a : Nat} (hv : v ≤ 99) (hw : w ≤ 99) (ha2 : a ≤ 2) : MOk 263 [.int (Int32.ofNat v), .int (Int32.ofNat w), .int (Int32.ofNat a)] D (.int (vPlan (Int32.ofNat v) (Int32.ofNat w) a)) := by
  intro d h hd hi hD
  obtain ⟨d, rfl⟩ : ∃ e, d = e + 1 := ⟨d - 1, by omega⟩
  obtain ⟨hz, ez, hiz, z0, qz⟩ := hi.z
  have hm := hi.1
  have hmz := hiz.1
  refine ⟨hz, ?_, qz, z0⟩
  have e183 := sp183 hmz z0 (d := d) (by omega) 1 1
  have a1 : ¬ 99 < v := by omega
  have a2 : ¬ 99 < w := by omega
  have a3 : ¬ 2 < a := by omega
  have st : ∀ (k : Nat) (x : Int32 × Int32), k < 4 → go gd_P0 d 263 59 [.null, .int (Int32.ofNat v), .int (Int32.ofNat w), .int (Int32.ofNat a), .int x.1, .int x.2, .int (Int32.ofNat k), .null, .null] [] hz = go gd_P0 d 263 59 [.null, .int (Int32.ofNat v), .int (Int32.ofNat w), .int (Int32.ofNat a), .int (pMn (Int32.ofNat v) (Int32.ofNat w) k x).1, .int (pMn (Int32.ofNat v) (Int32.ofNat w) k x).2, .int (Int32.ofNat (k + 1)), .null, .null] [] hz := by
    intro k x hk
    generalize Int32.ofNat v = V
    generalize Int32.ofNat w = W
    rw [s263_59]
    unfold pMn pOk
    rcases c4 hk with rfl | rfl | rfl | rfl
    all_goals
      simp (disch := first | omega | assumption) only [sp264 (d := d) (by omega), s263_88, gT_wI, gR_wI, gL_wI, gS_wI, gU_wI, gI_wI, gJ_wI, gI_wJ, gJ_wJ, gR_wJ, gT_wJ, gL_wJ, gS_wJ, gU_wJ, gI_wR, gJ_wR, gR_wR, gT_wR, gL_wR, gS_wR, gU_wR, wI_wI, wJ_wJ, wR_wR, j_s, j_add, j_addL, j_addR, j_mulL, j_mulR, j_cl, j_clL, j_neg, j_negL, j_nn, j_lt, j_le, j_eq, j_ltL, j_ltR, j_leL, j_leR, j_eqL, j_eqR, j_m1, j_m1L, j_m1R, j_eqLL, j_ltLL, j_leLL, n_le0, n_le1, n_lt0, n_lt1, gc_v, gc_n, ↓reduceIte, and_true, true_and, and_self, or_self, or_false, false_or, not_false_eq_true, not_true_eq_false, false_and, and_false, Nat.reduceAdd, Nat.reduceEqDiff, Nat.reduceLeDiff, Nat.reduceLT, Nat.reduceDiv, Nat.reduceMul, Nat.reduceSub, Nat.reduceMod, j_divR, j_mulR, j_mulL, j_subL, j_subR, j_sub]
      rw [s263_97]
      split
      next c1 => simp (disch := first | omega | assumption) only [c1, s263_150, decide_true, decide_false, Bool.not_true, Bool.not_false, Bool.false_eq_true, Bool.true_and, Bool.false_and, Bool.and_true, Bool.and_false, Int32.or_zero, gT_wI, gR_wI, gL_wI, gS_wI, gU_wI, gI_wI, gJ_wI, gI_wJ, gJ_wJ, gR_wJ, gT_wJ, gL_wJ, gS_wJ, gU_wJ, gI_wR, gJ_wR, gR_wR, gT_wR, gL_wR, gS_wR, gU_wR, wI_wI, wJ_wJ, wR_wR, j_s, j_add, j_addL, j_addR, j_mulL, j_mulR, j_cl, j_clL, j_neg, j_negL, j_nn, j_lt, j_le, j_eq, j_ltL, j_ltR, j_leL, j_leR, j_eqL, j_eqR, j_m1, j_m1L, j_m1R, j_eqLL, j_ltLL, j_leLL, n_le0, n_le1, n_lt0, n_lt1, gc_v, gc_n, ↓reduceIte, and_true, true_and, and_self, or_self, or_false, false_or, not_false_eq_true, not_true_eq_false, false_and, and_false, Nat.reduceAdd, Nat.reduceEqDiff, Nat.reduceLeDiff, Nat.reduceLT, Nat.reduceDiv, Nat.reduceMul, Nat.reduceSub, Nat.reduceMod, j_divR, j_mulR, j_mulL, j_subL, j_subR, j_sub]
      next c1 =>
        simp (disch := first | omega | assumption) only [c1, sp264 (d := d) (by omega), s263_111, s263_120, decide_true, decide_false, Bool.not_true, Bool.not_false, Bool.false_eq_true, Bool.true_and, Bool.false_and, Bool.and_true, Bool.and_false, Int32.or_zero, gT_wI, gR_wI, gL_wI, gS_wI, gU_wI, gI_wI, gJ_wI, gI_wJ, gJ_wJ, gR_wJ, gT_wJ, gL_wJ, gS_wJ, gU_wJ, gI_wR, gJ_wR, gR_wR, gT_wR, gL_wR, gS_wR, gU_wR, wI_wI, wJ_wJ, wR_wR, j_s, j_add, j_addL, j_addR, j_mulL, j_mulR, j_cl, j_clL, j_neg, j_negL, j_nn, j_lt, j_le, j_eq, j_ltL, j_ltR, j_leL, j_leR, j_eqL, j_eqR, j_m1, j_m1L, j_m1R, j_eqLL, j_ltLL, j_leLL, n_le0, n_le1, n_lt0, n_lt1, gc_v, gc_n, ↓reduceIte, and_true, true_and, and_self, or_self, or_false, false_or, not_false_eq_true, not_true_eq_false, false_and, and_false, Nat.reduceAdd, Nat.reduceEqDiff, Nat.reduceLeDiff, Nat.reduceLT, Nat.reduceDiv, Nat.reduceMul, Nat.reduceSub, Nat.reduceMod, j_divR, j_mulR, j_mulL, j_subL, j_subR, j_sub]
        split
        next c2 =>
          split
          next c3 => simp (disch := first | omega | assumption) only [Int32.not_lt.mpr c2, c3, s263_148, s263_150, decide_true, decide_false, Bool.not_true, Bool.not_false, Bool.false_eq_true, Bool.true_and, Bool.false_and, Bool.and_true, Bool.and_false, Int32.or_zero, gT_wI, gR_wI, gL_wI, gS_wI, gU_wI, gI_wI, gJ_wI, gI_wJ, gJ_wJ, gR_wJ, gT_wJ, gL_wJ, gS_wJ, gU_wJ, gI_wR, gJ_wR, gR_wR, gT_wR, gL_wR, gS_wR, gU_wR, wI_wI, wJ_wJ, wR_wR, j_s, j_add, j_addL, j_addR, j_mulL, j_mulR, j_cl, j_clL, j_neg, j_negL, j_nn, j_lt, j_le, j_eq, j_ltL, j_ltR, j_leL, j_leR, j_eqL, j_eqR, j_m1, j_m1L, j_m1R, j_eqLL, j_ltLL, j_leLL, n_le0, n_le1, n_lt0, n_lt1, gc_v, gc_n, ↓reduceIte, and_true, true_and, and_self, or_self, or_false, false_or, not_false_eq_true, not_true_eq_false, false_and, and_false, Nat.reduceAdd, Nat.reduceEqDiff, Nat.reduceLeDiff, Nat.reduceLT, Nat.reduceDiv, Nat.reduceMul, Nat.reduceSub, Nat.reduceMod, j_divR, j_mulR, j_mulL, j_subL, j_subR, j_sub]
          next c3 => simp (disch := first | omega | assumption) only [Int32.not_lt.mpr c2, c3, s263_148, s263_150, decide_true, decide_false, Bool.not_true, Bool.not_false, Bool.false_eq_true, Bool.true_and, Bool.false_and, Bool.and_true, Bool.and_false, Int32.or_zero, gT_wI, gR_wI, gL_wI, gS_wI, gU_wI, gI_wI, gJ_wI, gI_wJ, gJ_wJ, gR_wJ, gT_wJ, gL_wJ, gS_wJ, gU_wJ, gI_wR, gJ_wR, gR_wR, gT_wR, gL_wR, gS_wR, gU_wR, wI_wI, wJ_wJ, wR_wR, j_s, j_add, j_addL, j_addR, j_mulL, j_mulR, j_cl, j_clL, j_neg, j_negL, j_nn, j_lt, j_le, j_eq, j_ltL, j_ltR, j_leL, j_leR, j_eqL, j_eqR, j_m1, j_m1L, j_m1R, j_eqLL, j_ltLL, j_leLL, n_le0, n_le1, n_lt0, n_lt1, gc_v, gc_n, ↓reduceIte, and_true, true_and, and_self, or_self, or_false, false_or, not_false_eq_true, not_true_eq_false, false_and, and_false, Nat.reduceAdd, Nat.reduceEqDiff, Nat.reduceLeDiff, Nat.reduceLT, Nat.reduceDiv, Nat.reduceMul, Nat.reduceSub, Nat.reduceMod, j_divR, j_mulR, j_mulL, j_subL, j_subR, j_sub]
        next c2 => first | exact absurd (Int32.not_le.mp c2) c1 | simp (disch := first | omega | assumption) only [Int32.not_le.mp c2, s263_150, decide_true, decide_false, Bool.not_true, Bool.not_false, Bool.false_eq_true, Bool.true_and, Bool.false_and, Bool.and_true, Bool.and_false, Int32.or_zero, gT_wI, gR_wI, gL_wI, gS_wI, gU_wI, gI_wI, gJ_wI, gI_wJ, gJ_wJ, gR_wJ, gT_wJ, gL_wJ, gS_wJ, gU_wJ, gI_wR, gJ_wR, gR_wR, gT_wR, gL_wR, gS_wR, gU_wR, wI_wI, wJ_wJ, wR_wR, j_s, j_add, j_addL, j_addR, j_mulL, j_mulR, j_cl, j_clL, j_neg, j_negL, j_nn, j_lt, j_le, j_eq, j_ltL, j_ltR, j_leL, j_leR, j_eqL, j_eqR, j_m1, j_m1L, j_m1R, j_eqLL, j_ltLL, j_leLL, n_le0, n_le1, n_lt0, n_lt1, gc_v, gc_n, ↓reduceIte, and_true, true_and, and_self, or_self, or_false, false_or, not_false_eq_true, not_true_eq_false, false_and, and_false, Nat.reduceAdd, Nat.reduceEqDiff, Nat.reduceLeDiff, Nat.reduceLT, Nat.reduceDiv, Nat.reduceMul, Nat.reduceSub, Nat.reduceMod, j_divR, j_mulR, j_mulL, j_subL, j_subR, j_sub]
  rw [r263, s263_0]
  simp only [hm.t, ez, ↓reduceIte]
  simp (disch := first | omega | assumption) only [sp233 (d := d) (by omega), hmz.t, e183, a1, a2, a3, s263_13, s263_23, s263_32, s263_40, s263_45, i10, gT_wI, gR_wI, gL_wI, gS_wI, gU_wI, gI_wI, gJ_wI, gI_wJ, gJ_wJ, gR_wJ, gT_wJ, gL_wJ, gS_wJ, gU_wJ, gI_wR, gJ_wR, gR_wR, gT_wR, gL_wR, gS_wR, gU_wR, wI_wI, wJ_wJ, wR_wR, j_s, j_add, j_addL, j_addR, j_mulL, j_mulR, j_cl, j_clL, j_neg, j_negL, j_nn, j_lt, j_le, j_eq, j_ltL, j_ltR, j_leL, j_leR, j_eqL, j_eqR, j_m1, j_m1L, j_m1R, j_eqLL, j_ltLL, j_leLL, n_le0, n_le1, n_lt0, n_lt1, gc_v, gc_n, ↓reduceIte, and_true, true_and, and_self, or_self, or_false, false_or, not_false_eq_true, not_true_eq_false, false_and, and_false, Nat.reduceAdd, Nat.reduceEqDiff, Nat.reduceLeDiff, Nat.reduceLT]
  refine Eq.trans (st 0 (0, -1) (by decide)) ?_
  refine Eq.trans (st 1 _ (by decide)) ?_
  refine Eq.trans (st 2 _ (by decide)) ?_
  refine Eq.trans (st 3 _ (by decide)) ?_
  obtain ⟨p1, p2, p3⟩ := pPM (Int32.ofNat v) (Int32.ofNat w)
  show go gd_P0 d 263 59 [.null, .int (Int32.ofNat v), .int (Int32.ofNat w), .int (Int32.ofNat a), .int (pMx (Int32.ofNat v) (Int32.ofNat w)).1, .int (pMx (Int32.ofNat v) (Int32.ofNat w)).2, .int (Int32.ofNat (3 + 1)), .null, .null] [] hz = _
  rw [p1, p2, s263_59]
  unfold vPlan
  rcases c03 ha2 with rfl | rfl | rfl
  · simp (disch := first | omega | assumption) only [s263_216, gT_wI, gR_wI, gL_wI, gS_wI, gU_wI, gI_wI, gJ_wI, gI_wJ, gJ_wJ, gR_wJ, gT_wJ, gL_wJ, gS_wJ, gU_wJ, gI_wR, gJ_wR, gR_wR, gT_wR, gL_wR, gS_wR, gU_wR, wI_wI, wJ_wJ, wR_wR, j_s, j_add, j_addL, j_addR, j_mulL, j_mulR, j_cl, j_clL, j_neg, j_negL, j_nn, j_lt, j_le, j_eq, j_ltL, j_ltR, j_leL, j_leR, j_eqL, j_eqR, j_m1, j_m1L, j_m1R, j_eqLL, j_ltLL, j_leLL, n_le0, n_le1, n_lt0, n_lt1, gc_v, gc_n, ↓reduceIte, and_true, true_and, and_self, or_self, or_false, false_or, not_false_eq_true, not_true_eq_false, false_and, and_false, Nat.reduceAdd, Nat.reduceEqDiff, Nat.reduceLeDiff, Nat.reduceLT]
  · simp (disch := first | omega | assumption) only [s263_216, gT_wI, gR_wI, gL_wI, gS_wI, gU_wI, gI_wI, gJ_wI, gI_wJ, gJ_wJ, gR_wJ, gT_wJ, gL_wJ, gS_wJ, gU_wJ, gI_wR, gJ_wR, gR_wR, gT_wR, gL_wR, gS_wR, gU_wR, wI_wI, wJ_wJ, wR_wR, j_s, j_add, j_addL, j_addR, j_mulL, j_mulR, j_cl, j_clL, j_neg, j_negL, j_nn, j_lt, j_le, j_eq, j_ltL, j_ltR, j_leL, j_leR, j_eqL, j_eqR, j_m1, j_m1L, j_m1R, j_eqLL, j_ltLL, j_leLL, n_le0, n_le1, n_lt0, n_lt1, gc_v, gc_n, ↓reduceIte, and_true, true_and, and_self, or_self, or_false, false_or, not_false_eq_true, not_true_eq_false, false_and, and_false, Nat.reduceAdd, Nat.reduceEqDiff, Nat.reduceLeDiff, Nat.reduceLT]
  · rcases p3 with ⟨p4, p5⟩ | ⟨k, k4, p4, p5⟩
    · simp (disch := first | omega | assumption) only [p4, p5, s263_216, gT_wI, gR_wI, gL_wI, gS_wI, gU_wI, gI_wI, gJ_wI, gI_wJ, gJ_wJ, gR_wJ, gT_wJ, gL_wJ, gS_wJ, gU_wJ, gI_wR, gJ_wR, gR_wR, gT_wR, gL_wR, gS_wR, gU_wR, wI_wI, wJ_wJ, wR_wR, j_s, j_add, j_addL, j_addR, j_mulL, j_mulR, j_cl, j_clL, j_neg, j_negL, j_nn, j_lt, j_le, j_eq, j_ltL, j_ltR, j_leL, j_leR, j_eqL, j_eqR, j_m1, j_m1L, j_m1R, j_eqLL, j_ltLL, j_leLL, n_le0, n_le1, n_lt0, n_lt1, gc_v, gc_n, ↓reduceIte, and_true, true_and, and_self, or_self, or_false, false_or, not_false_eq_true, not_true_eq_false, false_and, and_false, Nat.reduceAdd, Nat.reduceEqDiff, Nat.reduceLeDiff, Nat.reduceLT]
    · rw [p4, p5]
      unfold pBo
      generalize Int32.ofNat v = V
      generalize Int32.ofNat w = W
      rcases c4 k4 with rfl | rfl | rfl | rfl
      all_goals simp (disch := first | omega | assumption) only [sp264 (d := d) (by omega), s263_200, s263_215, s263_216, gT_wI, gR_wI, gL_wI, gS_wI, gU_wI, gI_wI, gJ_wI, gI_wJ, gJ_wJ, gR_wJ, gT_wJ, gL_wJ, gS_wJ, gU_wJ, gI_wR, gJ_wR, gR_wR, gT_wR, gL_wR, gS_wR, gU_wR, wI_wI, wJ_wJ, wR_wR, j_s, j_add, j_addL, j_addR, j_mulL, j_mulR, j_cl, j_clL, j_neg, j_negL, j_nn, j_lt, j_le, j_eq, j_ltL, j_ltR, j_leL, j_leR, j_eqL, j_eqR, j_m1, j_m1L, j_m1R, j_eqLL, j_ltLL, j_leLL, n_le0, n_le1, n_lt0, n_lt1, gc_v, gc_n, ↓reduceIte, and_true, true_and, and_self, or_self, or_false, false_or, not_false_eq_true, not_true_eq_false, false_and, and_false, Nat.reduceAdd, Nat.reduceEqDiff, Nat.reduceLeDiff, Nat.reduceLT, Nat.reduceDiv, Nat.reduceMul, Nat.reduceSub, Nat.reduceMod, j_divR, j_mulR, j_mulL, j_subL, j_subR, j_sub]
theorem m263a {D : gdD} {v w a : Int32} (hv : v < 0 ∨ 99 < v ∨ w < 0 ∨ 99 < w ∨ a < 0 ∨ 2 < a) : MNo 263 [.int v, .int w, .int a] D 25 1 (.int 0) := by
  intro d h hd hi hD
  obtain ⟨d, rfl⟩ : ∃ e, d = e + 1 := ⟨d - 1, by omega⟩
  obtain ⟨hz, ez, hiz, z0, qz⟩ := hi.z
  have hm := hi.1
  have hmz := hiz.1
  have e183 := sp183n hmz z0 (d := d) (by omega) (c := 1) (by decide) 25 (by omega) (by omega)
  have fin : go gd_P0 d 263 39 [.null, .int v, .int w, .int a, .null, .null, .null, .null, .null] [.ref 1231] hz = some (.inl (some (.int 0)), mthr 25 1 h) := by
    rw [s263_39, s263_40]
    simp only [hmz.t, ↓reduceIte]
    refine Eq.trans (congrArg (gc gd_P0 d 263 _ _ _ _) e183) ?_
    rw [gc_v, s263_45, if_pos rfl]
    subst ez
    rw [mthr_z]
  rw [r263, s263_0]
  simp only [hm.t, ez, sp233 (d := d) (by omega), ↓reduceIte, gc_v, s263_13]
  by_cases a1 : v < 0
  · simp only [a1, ↓reduceIte]; exact fin
  by_cases a2 : 99 < v
  · simp only [a1, a2, ↓reduceIte]; exact fin
  simp only [a1, a2, i10, ↓reduceIte, sp233 (d := d) (by omega), gc_v, s263_23]
  by_cases a3 : w < 0
  · simp only [a3, ↓reduceIte]; exact fin
  by_cases a4 : 99 < w
  · simp only [a3, a4, ↓reduceIte]; exact fin
  simp only [a3, a4, i10, ↓reduceIte, sp233 (d := d) (by omega), gc_v, s263_32]
  by_cases a5 : a < 0
  · simp only [a5, ↓reduceIte]; exact fin
  have a6 := ((((hv.resolve_left a1).resolve_left a2).resolve_left a3).resolve_left a4).resolve_left a5
  simp only [a5, a6, ↓reduceIte]; exact fin

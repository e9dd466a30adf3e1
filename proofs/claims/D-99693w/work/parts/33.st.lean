/-! ===== WHAT A STATE'S METHODS DO (the class's own): a state at the cell a, its school at σ, in plain numbers ===== -/
set_option maxRecDepth 100000
theorem j_negL {n : Nat} (h : n < 2147483648) : ((no_index (OfNat.ofNat n) : Int32) < 0) = False := j_neg h
theorem up1_nj {α : Type} (f : Nat → Nat → α) {a b k j : Nat} (v : α) (h : j ≠ k) : up1 f a k v b j = f b j := by simp [up1, h]
theorem up1_nc {α : Type} (f : Nat → Nat → α) {a b : Nat} (k : Nat) (v : α) (h : b ≠ a) : up1 f a k v b = f b := by funext j; simp [up1, h]
/-- what stays: cells, kinds, lengths, references of a state and its school -/
def SS (h : gd_H) (a σ : Nat) : Prop := (100 < a ∧ a + 16 ≤ 1212 ∧ 1223 < σ) ∧ (gT h a = 4 ∧ gR h a 8 = 98 ∧ gT h 98 = 2 ∧ gR h a 9 = σ) ∧ (gR h a 0 = a + 1 ∧ gT h (a + 1) = 31 ∧ gL h (a + 1) = 6) ∧ (gR h a 1 = a + 2 ∧ gT h (a + 2) = 31 ∧ gL h (a + 2) = 7) ∧ (gR h a 2 = a + 3 ∧ gT h (a + 3) = 31 ∧ gL h (a + 3) = 7) ∧ (gR h a 3 = a + 4 ∧ gT h (a + 4) = 31 ∧ gL h (a + 4) = 7) ∧ (gR h a 4 = a + 5 ∧ gT h (a + 5) = 31 ∧ gL h (a + 5) = 7) ∧ (gR h a 5 = a + 6 ∧ gT h (a + 6) = 31 ∧ gL h (a + 6) = 7) ∧ (gR h a 6 = a + 7 ∧ gT h (a + 7) = 31 ∧ gL h (a + 7) = 7) ∧ (gR h a 7 = a + 8 ∧ gT h (a + 8) = 5) ∧ gT h σ = 6 ∧ (gR h σ 0 = σ + 1 ∧ gT h (σ + 1) = 31 ∧ gL h (σ + 1) = 6) ∧ (gR h σ 1 = σ + 2 ∧ gT h (σ + 2) = 31 ∧ gL h (σ + 2) = 6) ∧ (gR h σ 2 = σ + 3 ∧ gT h (σ + 3) = 31 ∧ gL h (σ + 3) = 7) ∧ (gR h σ 3 = σ + 4 ∧ gT h (σ + 4) = 31 ∧ gL h (σ + 4) = 7) ∧ (gR h σ 4 = σ + 5 ∧ gT h (σ + 5) = 31 ∧ gL h (σ + 5) = 7) ∧ (gR h σ 5 = σ + 6 ∧ gT h (σ + 6) = 31 ∧ gL h (σ + 6) = 12)
/-- what its numbers are -/
def XC (I : Nat → Nat → Int32) (a σ : Nat) (E : gdE) (al : Int32) (r : gdR) : Prop := (eB E ≤ 6 ∧ eN E ≤ 7) ∧ (I σ 6 = Int32.ofNat (eB E) ∧ I σ 7 = Int32.ofNat (eN E)) ∧ (∀ k, k < eB E → I (σ + 2) k = eG E k) ∧ (∀ p, p < 7 → I (σ + 5) p = eK E p) ∧ (∀ m, m < 12 → I (σ + 6) m = eR E m) ∧ (∀ p, p < 7 → I (a + 2) p = r p) ∧ (∀ p, p < 7 → I (a + 3) p = r (7 + p)) ∧ (∀ p, p < 7 → I (a + 4) p = r (14 + p)) ∧ (∀ p, p < 7 → I (a + 5) p = r (21 + p)) ∧ (∀ p, p < 7 → I (a + 6) p = r (28 + p)) ∧ (∀ p, p < eN E → r (35 + p) = if bt (I a 12) p = true then 0 else 1) ∧ (∀ k, k < 6 → I (a + 1) k = r (42 + k)) ∧ I a 11 = r 48 ∧ I a 10 = r 49 ∧ I a 13 = al
theorem SS.wI {h : gd_H} {a σ : Nat} (I : Nat → Nat → Int32) (hs : SS h a σ) : SS (wI h I) a σ := hs
theorem XC.fr {I I' : Nat → Nat → Int32} {a σ : Nat} {E : gdE} {al : Int32} {r : gdR} (hx : XC I a σ E al r) (hs : 1223 < σ) (hf : ∀ b, (a ≤ b ∧ b ≤ a + 6) ∨ 1224 ≤ b → I' b = I b) : XC I' a σ E al r := by
  have e0 := hf a (by omega)
  have e1 := hf (a + 1) (by omega)
  have e2 := hf (a + 2) (by omega)
  have e3 := hf (a + 3) (by omega)
  have e4 := hf (a + 4) (by omega)
  have e5 := hf (a + 5) (by omega)
  have e6 := hf (a + 6) (by omega)
  have g0 := hf σ (by omega)
  have g2 := hf (σ + 2) (by omega)
  have g5 := hf (σ + 5) (by omega)
  have g6 := hf (σ + 6) (by omega)
  unfold XC
  rw [e0, e1, e2, e3, e4, e5, e6, g0, g2, g5, g6]
  exact hx
/-- the eight facts in a sight -/
def sgt (I : Nat → Nat → Int32) (b : Nat) (f : Nat → Int32) : Nat → Nat → Int32 := up1 (up1 (up1 (up1 (up1 (up1 (up1 (up1 I b 0 (f 0)) b 1 (f 1)) b 2 (f 2)) b 3 (f 3)) b 4 (f 4)) b 5 (f 5)) b 6 (f 6)) b 7 (f 7)
theorem sgt_ne (I : Nat → Nat → Int32) {b x : Nat} (f : Nat → Int32) (h : x ≠ b) : sgt I b f x = I x := by
  unfold sgt
  simp only [up1_nc _ _ _ h]
theorem sgt_at (I : Nat → Nat → Int32) (b : Nat) (f : Nat → Int32) : ∀ j, j < 8 → sgt I b f b j = f j := by
  intro j hj
  have : j = 0 ∨ j = 1 ∨ j = 2 ∨ j = 3 ∨ j = 4 ∨ j = 5 ∨ j = 6 ∨ j = 7 := by omega
  rcases this with rfl | rfl | rfl | rfl | rfl | rfl | rfl | rfl <;> simp [sgt, up1]
/-- the law's method, whatever the state's ints are -/
def LWf (h : gd_H) (lw : (Nat → Int32) → Int32) : Prop := ∀ (d s : Nat) (I : Nat → Nat → Int32), 170 ≤ d → (∀ b, 1224 ≤ b → I b = gI h b) → gT h s = 5 → run gd_P0 d 135 [.ref 98, .ref s] (wI h I) = some (.inl (some (.int (pCl (lw (I s))))), wI h I)
theorem LWf.wI {h : gd_H} {lw : (Nat → Int32) → Int32} (hl : LWf h lw) {I : Nat → Nat → Int32} (hf : ∀ b, 1224 ≤ b → I b = gI h b) : LWf (wI h I) lw := fun d s I' hd hI ht => hl d s I' hd (fun b hb => (hI b hb).trans (hf b hb)) ht
theorem sp157 {d : Nat} {h : gd_H} {a σ : Nat} {E : gdE} {al : Int32} {r : gdR} (hd : 1 ≤ d) (hs : SS h a σ) (hx : XC (gI h) a σ E al r) (k : Nat) (hk : k ≤ 6) : run gd_P0 d 157 [.ref a, .int (Int32.ofNat k)] h = some (.inl (some (.int (pb r k))), h) := by
  obtain ⟨d, rfl⟩ : ∃ e, d = e + 1 := ⟨d - 1, by omega⟩
  obtain ⟨⟨hA1, hA2, hS1⟩, ⟨tA, rA8, tLw, rA9⟩, ⟨rA0, tA1, lA1⟩, ⟨rA1, tA2, lA2⟩, ⟨rA2, tA3, lA3⟩, ⟨rA3, tA4, lA4⟩, ⟨rA4, tA5, lA5⟩, ⟨rA5, tA6, lA6⟩, ⟨rA6, tA7, lA7⟩, ⟨rA7, tA8⟩, tS, ⟨rS0, tS1, lS1⟩, ⟨rS1, tS2, lS2⟩, ⟨rS2, tS3, lS3⟩, ⟨rS3, tS4, lS4⟩, ⟨rS4, tS5, lS5⟩, ⟨rS5, tS6, lS6⟩⟩ := id hs
  obtain ⟨⟨hB, hN⟩, ⟨iB, iN⟩, iG, iK, iR, cH, cF, cO, cA, cC, cW, cT, cG, cM, cL⟩ := id hx
  rw [r157, s157_0]
  refine (lp_f (fun i x => go gd_P0 d 157 4 [.ref a, .int (Int32.ofNat k), .int x, .int (Int32.ofNat i)] [] h) (fun e n => n + r (42 + e)) k 0 ?_).trans ?_
  · intro i hi x
    try dsimp only
    rw [s157_4]
    simp (disch := first | omega | assumption) only [tA, rA8, tLw, rA9, rA0, tA1, lA1, rA1, tA2, lA2, rA2, tA3, lA3, rA3, tA4, lA4, rA4, tA5, lA5, rA5, tA6, lA6, rA6, tA7, lA7, rA7, tA8, tS, rS0, tS1, lS1, rS1, tS2, lS2, rS2, tS3, lS3, rS3, tS4, lS4, rS4, tS5, lS5, rS5, tS6, lS6, iB, iN, iG, iK, iR, cH, cF, cO, cA, cC, cT, cG, cM, cL, gT_wI, gR_wI, gL_wI, gS_wI, gU_wI, gI_wI, gJ_wI, gI_wJ, gJ_wJ, gR_wJ, gT_wJ, gL_wJ, gS_wJ, gU_wJ, gI_wR, gJ_wR, gR_wR, gT_wR, gL_wR, gS_wR, gU_wR, wI_wI, wJ_wJ, wR_wR, j_s, j_add, j_addL, j_addR, j_mulL, j_mulR, j_cl, j_clL, j_neg, j_negL, j_nn, j_lt, j_le, j_eq, j_ltL, j_ltR, j_leL, j_leR, j_eqL, j_eqR, j_m1, j_m1L, j_m1R, j_eqLL, j_ltLL, j_leLL, n_le0, n_le1, n_lt0, n_lt1, gc_v, gc_n, ↓reduceIte, and_true, true_and, and_self, or_self, or_false, false_or, not_false_eq_true, not_true_eq_false, false_and, and_false, Nat.reduceAdd, Nat.reduceEqDiff, Nat.reduceLeDiff, Nat.reduceLT]
  · try dsimp only
    rw [s157_4]
    simp (disch := first | omega | assumption) only [tA, rA8, tLw, rA9, rA0, tA1, lA1, rA1, tA2, lA2, rA2, tA3, lA3, rA3, tA4, lA4, rA4, tA5, lA5, rA5, tA6, lA6, rA6, tA7, lA7, rA7, tA8, tS, rS0, tS1, lS1, rS1, tS2, lS2, rS2, tS3, lS3, rS3, tS4, lS4, rS4, tS5, lS5, rS5, tS6, lS6, iB, iN, iG, iK, iR, cH, cF, cO, cA, cC, cT, cG, cM, cL, gT_wI, gR_wI, gL_wI, gS_wI, gU_wI, gI_wI, gJ_wI, gI_wJ, gJ_wJ, gR_wJ, gT_wJ, gL_wJ, gS_wJ, gU_wJ, gI_wR, gJ_wR, gR_wR, gT_wR, gL_wR, gS_wR, gU_wR, wI_wI, wJ_wJ, wR_wR, j_s, j_add, j_addL, j_addR, j_mulL, j_mulR, j_cl, j_clL, j_neg, j_negL, j_nn, j_lt, j_le, j_eq, j_ltL, j_ltR, j_leL, j_leR, j_eqL, j_eqR, j_m1, j_m1L, j_m1R, j_eqLL, j_ltLL, j_leLL, n_le0, n_le1, n_lt0, n_lt1, gc_v, gc_n, ↓reduceIte, and_true, true_and, and_self, or_self, or_false, false_or, not_false_eq_true, not_true_eq_false, false_and, and_false, Nat.reduceAdd, Nat.reduceEqDiff, Nat.reduceLeDiff, Nat.reduceLT]
    rfl
theorem sp158 {d : Nat} {h : gd_H} {a σ : Nat} {E : gdE} {al : Int32} {r : gdR} (hd : 2 ≤ d) (hs : SS h a σ) (hx : XC (gI h) a σ E al r) : run gd_P0 d 158 [.ref a] h = some (.inl (some (.int (pb r (eB E)))), h) := by
  obtain ⟨d, rfl⟩ : ∃ e, d = e + 1 := ⟨d - 1, by omega⟩
  obtain ⟨⟨hA1, hA2, hS1⟩, ⟨tA, rA8, tLw, rA9⟩, ⟨rA0, tA1, lA1⟩, ⟨rA1, tA2, lA2⟩, ⟨rA2, tA3, lA3⟩, ⟨rA3, tA4, lA4⟩, ⟨rA4, tA5, lA5⟩, ⟨rA5, tA6, lA6⟩, ⟨rA6, tA7, lA7⟩, ⟨rA7, tA8⟩, tS, ⟨rS0, tS1, lS1⟩, ⟨rS1, tS2, lS2⟩, ⟨rS2, tS3, lS3⟩, ⟨rS3, tS4, lS4⟩, ⟨rS4, tS5, lS5⟩, ⟨rS5, tS6, lS6⟩⟩ := id hs
  obtain ⟨⟨hB, hN⟩, ⟨iB, iN⟩, iG, iK, iR, cH, cF, cO, cA, cC, cW, cT, cG, cM, cL⟩ := id hx
  rw [r158, s158_0]
  simp (disch := first | omega | assumption) only [tA, rA8, tLw, rA9, rA0, tA1, lA1, rA1, tA2, lA2, rA2, tA3, lA3, rA3, tA4, lA4, rA4, tA5, lA5, rA5, tA6, lA6, rA6, tA7, lA7, rA7, tA8, tS, rS0, tS1, lS1, rS1, tS2, lS2, rS2, tS3, lS3, rS3, tS4, lS4, rS4, tS5, lS5, rS5, tS6, lS6, iB, iN, iG, iK, iR, cH, cF, cO, cA, cC, cT, cG, cM, cL, sp157 (d := d) (by omega) hs hx, s158_11, gT_wI, gR_wI, gL_wI, gS_wI, gU_wI, gI_wI, gJ_wI, gI_wJ, gJ_wJ, gR_wJ, gT_wJ, gL_wJ, gS_wJ, gU_wJ, gI_wR, gJ_wR, gR_wR, gT_wR, gL_wR, gS_wR, gU_wR, wI_wI, wJ_wJ, wR_wR, j_s, j_add, j_addL, j_addR, j_mulL, j_mulR, j_cl, j_clL, j_neg, j_negL, j_nn, j_lt, j_le, j_eq, j_ltL, j_ltR, j_leL, j_leR, j_eqL, j_eqR, j_m1, j_m1L, j_m1R, j_eqLL, j_ltLL, j_leLL, n_le0, n_le1, n_lt0, n_lt1, gc_v, gc_n, ↓reduceIte, and_true, true_and, and_self, or_self, or_false, false_or, not_false_eq_true, not_true_eq_false, false_and, and_false, Nat.reduceAdd, Nat.reduceEqDiff, Nat.reduceLeDiff, Nat.reduceLT]
theorem sp156 {d : Nat} {h : gd_H} {a σ : Nat} {E : gdE} {al : Int32} {r : gdR} (hd : 2 ≤ d) (hs : SS h a σ) (hx : XC (gI h) a σ E al r) {m : Nat} (hr : RI E m r) (p : Nat) (hp : p < 7) : run gd_P0 d 156 [.ref a, .int (Int32.ofNat p)] h = some (.inl (some (.int (pAt r p))), h) := by
  obtain ⟨d, rfl⟩ : ∃ e, d = e + 1 := ⟨d - 1, by omega⟩
  obtain ⟨⟨hA1, hA2, hS1⟩, ⟨tA, rA8, tLw, rA9⟩, ⟨rA0, tA1, lA1⟩, ⟨rA1, tA2, lA2⟩, ⟨rA2, tA3, lA3⟩, ⟨rA3, tA4, lA4⟩, ⟨rA4, tA5, lA5⟩, ⟨rA5, tA6, lA6⟩, ⟨rA6, tA7, lA7⟩, ⟨rA7, tA8⟩, tS, ⟨rS0, tS1, lS1⟩, ⟨rS1, tS2, lS2⟩, ⟨rS2, tS3, lS3⟩, ⟨rS3, tS4, lS4⟩, ⟨rS4, tS5, lS5⟩, ⟨rS5, tS6, lS6⟩⟩ := id hs
  obtain ⟨⟨hB, hN⟩, ⟨iB, iN⟩, iG, iK, iR, cH, cF, cO, cA, cC, cW, cT, cG, cM, cL⟩ := id hx
  rw [r156, s156_0]
  unfold pAt
  rcases hr.2.1 p hp with e | ⟨k, hk, e⟩
  · simp (disch := first | omega | assumption) only [tA, rA8, tLw, rA9, rA0, tA1, lA1, rA1, tA2, lA2, rA2, tA3, lA3, rA3, tA4, lA4, rA4, tA5, lA5, rA5, tA6, lA6, rA6, tA7, lA7, rA7, tA8, tS, rS0, tS1, lS1, rS1, tS2, lS2, rS2, tS3, lS3, rS3, tS4, lS4, rS4, tS5, lS5, rS5, tS6, lS6, iB, iN, iG, iK, iR, cH, cF, cO, cA, cC, cT, cG, cM, cL, e, s156_31, gT_wI, gR_wI, gL_wI, gS_wI, gU_wI, gI_wI, gJ_wI, gI_wJ, gJ_wJ, gR_wJ, gT_wJ, gL_wJ, gS_wJ, gU_wJ, gI_wR, gJ_wR, gR_wR, gT_wR, gL_wR, gS_wR, gU_wR, wI_wI, wJ_wJ, wR_wR, j_s, j_add, j_addL, j_addR, j_mulL, j_mulR, j_cl, j_clL, j_neg, j_negL, j_nn, j_lt, j_le, j_eq, j_ltL, j_ltR, j_leL, j_leR, j_eqL, j_eqR, j_m1, j_m1L, j_m1R, j_eqLL, j_ltLL, j_leLL, n_le0, n_le1, n_lt0, n_lt1, gc_v, gc_n, ↓reduceIte, and_true, true_and, and_self, or_self, or_false, false_or, not_false_eq_true, not_true_eq_false, false_and, and_false, Nat.reduceAdd, Nat.reduceEqDiff, Nat.reduceLeDiff, Nat.reduceLT]
  · simp (disch := first | omega | assumption) only [tA, rA8, tLw, rA9, rA0, tA1, lA1, rA1, tA2, lA2, rA2, tA3, lA3, rA3, tA4, lA4, rA4, tA5, lA5, rA5, tA6, lA6, rA6, tA7, lA7, rA7, tA8, tS, rS0, tS1, lS1, rS1, tS2, lS2, rS2, tS3, lS3, rS3, tS4, lS4, rS4, tS5, lS5, rS5, tS6, lS6, iB, iN, iG, iK, iR, cH, cF, cO, cA, cC, cT, cG, cM, cL, e, sp157 (d := d) (by omega) hs hx, s156_24, s156_31, gT_wI, gR_wI, gL_wI, gS_wI, gU_wI, gI_wI, gJ_wI, gI_wJ, gJ_wJ, gR_wJ, gT_wJ, gL_wJ, gS_wJ, gU_wJ, gI_wR, gJ_wR, gR_wR, gT_wR, gL_wR, gS_wR, gU_wR, wI_wI, wJ_wJ, wR_wR, j_s, j_add, j_addL, j_addR, j_mulL, j_mulR, j_cl, j_clL, j_neg, j_negL, j_nn, j_lt, j_le, j_eq, j_ltL, j_ltR, j_leL, j_leR, j_eqL, j_eqR, j_m1, j_m1L, j_m1R, j_eqLL, j_ltLL, j_leLL, n_le0, n_le1, n_lt0, n_lt1, gc_v, gc_n, ↓reduceIte, and_true, true_and, and_self, or_self, or_false, false_or, not_false_eq_true, not_true_eq_false, false_and, and_false, Nat.reduceAdd, Nat.reduceEqDiff, Nat.reduceLeDiff, Nat.reduceLT]
theorem sp155 {d : Nat} {h : gd_H} {a σ : Nat} {E : gdE} {al : Int32} {r : gdR} (hd : 3 ≤ d) (hs : SS h a σ) (hx : XC (gI h) a σ E al r) {m : Nat} (hr : RI E m r) (p : Nat) (hp : p < 7) : run gd_P0 d 155 [.ref a, .int (Int32.ofNat p)] h = some (.inl (some (.int (pGain r p))), h) := by
  obtain ⟨d, rfl⟩ : ∃ e, d = e + 1 := ⟨d - 1, by omega⟩
  obtain ⟨⟨hA1, hA2, hS1⟩, ⟨tA, rA8, tLw, rA9⟩, ⟨rA0, tA1, lA1⟩, ⟨rA1, tA2, lA2⟩, ⟨rA2, tA3, lA3⟩, ⟨rA3, tA4, lA4⟩, ⟨rA4, tA5, lA5⟩, ⟨rA5, tA6, lA6⟩, ⟨rA6, tA7, lA7⟩, ⟨rA7, tA8⟩, tS, ⟨rS0, tS1, lS1⟩, ⟨rS1, tS2, lS2⟩, ⟨rS2, tS3, lS3⟩, ⟨rS3, tS4, lS4⟩, ⟨rS4, tS5, lS5⟩, ⟨rS5, tS6, lS6⟩⟩ := id hs
  obtain ⟨⟨hB, hN⟩, ⟨iB, iN⟩, iG, iK, iR, cH, cF, cO, cA, cC, cW, cT, cG, cM, cL⟩ := id hx
  rw [r155, s155_0]
  unfold pGain
  rcases hr.2.1 p hp with e | ⟨k, hk, e⟩
  · simp (disch := first | omega | assumption) only [tA, rA8, tLw, rA9, rA0, tA1, lA1, rA1, tA2, lA2, rA2, tA3, lA3, rA3, tA4, lA4, rA4, tA5, lA5, rA5, tA6, lA6, rA6, tA7, lA7, rA7, tA8, tS, rS0, tS1, lS1, rS1, tS2, lS2, rS2, tS3, lS3, rS3, tS4, lS4, rS4, tS5, lS5, rS5, tS6, lS6, iB, iN, iG, iK, iR, cH, cF, cO, cA, cC, cT, cG, cM, cL, e, s155_26, gT_wI, gR_wI, gL_wI, gS_wI, gU_wI, gI_wI, gJ_wI, gI_wJ, gJ_wJ, gR_wJ, gT_wJ, gL_wJ, gS_wJ, gU_wJ, gI_wR, gJ_wR, gR_wR, gT_wR, gL_wR, gS_wR, gU_wR, wI_wI, wJ_wJ, wR_wR, j_s, j_add, j_addL, j_addR, j_mulL, j_mulR, j_cl, j_clL, j_neg, j_negL, j_nn, j_lt, j_le, j_eq, j_ltL, j_ltR, j_leL, j_leR, j_eqL, j_eqR, j_m1, j_m1L, j_m1R, j_eqLL, j_ltLL, j_leLL, n_le0, n_le1, n_lt0, n_lt1, gc_v, gc_n, ↓reduceIte, and_true, true_and, and_self, or_self, or_false, false_or, not_false_eq_true, not_true_eq_false, false_and, and_false, Nat.reduceAdd, Nat.reduceEqDiff, Nat.reduceLeDiff, Nat.reduceLT]
  · simp (disch := first | omega | assumption) only [tA, rA8, tLw, rA9, rA0, tA1, lA1, rA1, tA2, lA2, rA2, tA3, lA3, rA3, tA4, lA4, rA4, tA5, lA5, rA5, tA6, lA6, rA6, tA7, lA7, rA7, tA8, tS, rS0, tS1, lS1, rS1, tS2, lS2, rS2, tS3, lS3, rS3, tS4, lS4, rS4, tS5, lS5, rS5, tS6, lS6, iB, iN, iG, iK, iR, cH, cF, cO, cA, cC, cT, cG, cM, cL, e, sp156 (d := d) (by omega) hs hx hr, s155_25, s155_26, gT_wI, gR_wI, gL_wI, gS_wI, gU_wI, gI_wI, gJ_wI, gI_wJ, gJ_wJ, gR_wJ, gT_wJ, gL_wJ, gS_wJ, gU_wJ, gI_wR, gJ_wR, gR_wR, gT_wR, gL_wR, gS_wR, gU_wR, wI_wI, wJ_wJ, wR_wR, j_s, j_add, j_addL, j_addR, j_mulL, j_mulR, j_cl, j_clL, j_neg, j_negL, j_nn, j_lt, j_le, j_eq, j_ltL, j_ltR, j_leL, j_leR, j_eqL, j_eqR, j_m1, j_m1L, j_m1R, j_eqLL, j_ltLL, j_leLL, n_le0, n_le1, n_lt0, n_lt1, gc_v, gc_n, ↓reduceIte, and_true, true_and, and_self, or_self, or_false, false_or, not_false_eq_true, not_true_eq_false, false_and, and_false, Nat.reduceAdd, Nat.reduceEqDiff, Nat.reduceLeDiff, Nat.reduceLT]
theorem sp154 {d : Nat} {h : gd_H} {a σ : Nat} {E : gdE} {al : Int32} {r : gdR} (hd : 1 ≤ d) (hs : SS h a σ) (hx : XC (gI h) a σ E al r) {m : Nat} (e : r 49 = Int32.ofNat m) (hm : m < 1000000) : run gd_P0 d 154 [.ref a] h = some (.inl (some (.int (pRain E al r))), h) := by
  obtain ⟨d, rfl⟩ : ∃ e, d = e + 1 := ⟨d - 1, by omega⟩
  obtain ⟨⟨hA1, hA2, hS1⟩, ⟨tA, rA8, tLw, rA9⟩, ⟨rA0, tA1, lA1⟩, ⟨rA1, tA2, lA2⟩, ⟨rA2, tA3, lA3⟩, ⟨rA3, tA4, lA4⟩, ⟨rA4, tA5, lA5⟩, ⟨rA5, tA6, lA6⟩, ⟨rA6, tA7, lA7⟩, ⟨rA7, tA8⟩, tS, ⟨rS0, tS1, lS1⟩, ⟨rS1, tS2, lS2⟩, ⟨rS2, tS3, lS3⟩, ⟨rS3, tS4, lS4⟩, ⟨rS4, tS5, lS5⟩, ⟨rS5, tS6, lS6⟩⟩ := id hs
  obtain ⟨⟨hB, hN⟩, ⟨iB, iN⟩, iG, iK, iR, cH, cF, cO, cA, cC, cW, cT, cG, cM, cL⟩ := id hx
  rw [r154, s154_0]
  unfold pRain
  have e2 := mod12 m (by omega)
  by_cases hal : al = -1
  · simp (disch := first | omega | assumption) only [tA, rA8, tLw, rA9, rA0, tA1, lA1, rA1, tA2, lA2, rA2, tA3, lA3, rA3, tA4, lA4, rA4, tA5, lA5, rA5, tA6, lA6, rA6, tA7, lA7, rA7, tA8, tS, rS0, tS1, lS1, rS1, tS2, lS2, rS2, tS3, lS3, rS3, tS4, lS4, rS4, tS5, lS5, rS5, tS6, lS6, iB, iN, iG, iK, iR, cH, cF, cO, cA, cC, cT, cG, cM, cL, hal, e, e2, s154_30, gT_wI, gR_wI, gL_wI, gS_wI, gU_wI, gI_wI, gJ_wI, gI_wJ, gJ_wJ, gR_wJ, gT_wJ, gL_wJ, gS_wJ, gU_wJ, gI_wR, gJ_wR, gR_wR, gT_wR, gL_wR, gS_wR, gU_wR, wI_wI, wJ_wJ, wR_wR, j_s, j_add, j_addL, j_addR, j_mulL, j_mulR, j_cl, j_clL, j_neg, j_negL, j_nn, j_lt, j_le, j_eq, j_ltL, j_ltR, j_leL, j_leR, j_eqL, j_eqR, j_m1, j_m1L, j_m1R, j_eqLL, j_ltLL, j_leLL, n_le0, n_le1, n_lt0, n_lt1, gc_v, gc_n, ↓reduceIte, and_true, true_and, and_self, or_self, or_false, false_or, not_false_eq_true, not_true_eq_false, false_and, and_false, Nat.reduceAdd, Nat.reduceEqDiff, Nat.reduceLeDiff, Nat.reduceLT]
  · simp (disch := first | omega | assumption) only [tA, rA8, tLw, rA9, rA0, tA1, lA1, rA1, tA2, lA2, rA2, tA3, lA3, rA3, tA4, lA4, rA4, tA5, lA5, rA5, tA6, lA6, rA6, tA7, lA7, rA7, tA8, tS, rS0, tS1, lS1, rS1, tS2, lS2, rS2, tS3, lS3, rS3, tS4, lS4, rS4, tS5, lS5, rS5, tS6, lS6, iB, iN, iG, iK, iR, cH, cF, cO, cA, cC, cT, cG, cM, cL, hal, s154_30, gT_wI, gR_wI, gL_wI, gS_wI, gU_wI, gI_wI, gJ_wI, gI_wJ, gJ_wJ, gR_wJ, gT_wJ, gL_wJ, gS_wJ, gU_wJ, gI_wR, gJ_wR, gR_wR, gT_wR, gL_wR, gS_wR, gU_wR, wI_wI, wJ_wJ, wR_wR, j_s, j_add, j_addL, j_addR, j_mulL, j_mulR, j_cl, j_clL, j_neg, j_negL, j_nn, j_lt, j_le, j_eq, j_ltL, j_ltR, j_leL, j_leR, j_eqL, j_eqR, j_m1, j_m1L, j_m1R, j_eqLL, j_ltLL, j_leLL, n_le0, n_le1, n_lt0, n_lt1, gc_v, gc_n, ↓reduceIte, and_true, true_and, and_self, or_self, or_false, false_or, not_false_eq_true, not_true_eq_false, false_and, and_false, Nat.reduceAdd, Nat.reduceEqDiff, Nat.reduceLeDiff, Nat.reduceLT]
theorem sp161 {d : Nat} {h : gd_H} {a σ : Nat} {E : gdE} {al : Int32} {r : gdR} (hd : 1 ≤ d) (hs : SS h a σ) (hx : XC (gI h) a σ E al r) (p : Nat) (hp : p < eN E) : run gd_P0 d 161 [.ref a, .int (Int32.ofNat p)] h = some (.inl (some (.int (r (35 + p)))), h) := by
  obtain ⟨d, rfl⟩ : ∃ e, d = e + 1 := ⟨d - 1, by omega⟩
  obtain ⟨⟨hA1, hA2, hS1⟩, ⟨tA, rA8, tLw, rA9⟩, ⟨rA0, tA1, lA1⟩, ⟨rA1, tA2, lA2⟩, ⟨rA2, tA3, lA3⟩, ⟨rA3, tA4, lA4⟩, ⟨rA4, tA5, lA5⟩, ⟨rA5, tA6, lA6⟩, ⟨rA6, tA7, lA7⟩, ⟨rA7, tA8⟩, tS, ⟨rS0, tS1, lS1⟩, ⟨rS1, tS2, lS2⟩, ⟨rS2, tS3, lS3⟩, ⟨rS3, tS4, lS4⟩, ⟨rS4, tS5, lS5⟩, ⟨rS5, tS6, lS6⟩⟩ := id hs
  obtain ⟨⟨hB, hN⟩, ⟨iB, iN⟩, iG, iK, iR, cH, cF, cO, cA, cC, cW, cT, cG, cM, cL⟩ := id hx
  rw [r161, s161_0, cW p hp]
  have e := b_q0 (x := gI h a 12) (k := p) (by omega)
  by_cases q : bt (gI h a 12) p = true
  · simp (disch := first | omega | assumption) only [tA, rA8, tLw, rA9, rA0, tA1, lA1, rA1, tA2, lA2, rA2, tA3, lA3, rA3, tA4, lA4, rA4, tA5, lA5, rA5, tA6, lA6, rA6, tA7, lA7, rA7, tA8, tS, rS0, tS1, lS1, rS1, tS2, lS2, rS2, tS3, lS3, rS3, tS4, lS4, rS4, tS5, lS5, rS5, tS6, lS6, iB, iN, iG, iK, iR, cH, cF, cO, cA, cC, cT, cG, cM, cL, e, q, Bool.true_eq_false, s161_16, eq_self, true_or, gT_wI, gR_wI, gL_wI, gS_wI, gU_wI, gI_wI, gJ_wI, gI_wJ, gJ_wJ, gR_wJ, gT_wJ, gL_wJ, gS_wJ, gU_wJ, gI_wR, gJ_wR, gR_wR, gT_wR, gL_wR, gS_wR, gU_wR, wI_wI, wJ_wJ, wR_wR, j_s, j_add, j_addL, j_addR, j_mulL, j_mulR, j_cl, j_clL, j_neg, j_negL, j_nn, j_lt, j_le, j_eq, j_ltL, j_ltR, j_leL, j_leR, j_eqL, j_eqR, j_m1, j_m1L, j_m1R, j_eqLL, j_ltLL, j_leLL, n_le0, n_le1, n_lt0, n_lt1, gc_v, gc_n, ↓reduceIte, and_true, true_and, and_self, or_self, or_false, false_or, not_false_eq_true, not_true_eq_false, false_and, and_false, Nat.reduceAdd, Nat.reduceEqDiff, Nat.reduceLeDiff, Nat.reduceLT]
  · simp (disch := first | omega | assumption) only [tA, rA8, tLw, rA9, rA0, tA1, lA1, rA1, tA2, lA2, rA2, tA3, lA3, rA3, tA4, lA4, rA4, tA5, lA5, rA5, tA6, lA6, rA6, tA7, lA7, rA7, tA8, tS, rS0, tS1, lS1, rS1, tS2, lS2, rS2, tS3, lS3, rS3, tS4, lS4, rS4, tS5, lS5, rS5, tS6, lS6, iB, iN, iG, iK, iR, cH, cF, cO, cA, cC, cT, cG, cM, cL, e, Bool.eq_false_iff.mpr q, Bool.false_eq_true, s161_16, or_true, gT_wI, gR_wI, gL_wI, gS_wI, gU_wI, gI_wI, gJ_wI, gI_wJ, gJ_wJ, gR_wJ, gT_wJ, gL_wJ, gS_wJ, gU_wJ, gI_wR, gJ_wR, gR_wR, gT_wR, gL_wR, gS_wR, gU_wR, wI_wI, wJ_wJ, wR_wR, j_s, j_add, j_addL, j_addR, j_mulL, j_mulR, j_cl, j_clL, j_neg, j_negL, j_nn, j_lt, j_le, j_eq, j_ltL, j_ltR, j_leL, j_leR, j_eqL, j_eqR, j_m1, j_m1L, j_m1R, j_eqLL, j_ltLL, j_leLL, n_le0, n_le1, n_lt0, n_lt1, gc_v, gc_n, ↓reduceIte, and_true, true_and, and_self, or_self, or_false, false_or, not_false_eq_true, not_true_eq_false, false_and, and_false, Nat.reduceAdd, Nat.reduceEqDiff, Nat.reduceLeDiff, Nat.reduceLT]
theorem sp153 {d : Nat} {h : gd_H} {a σ : Nat} {E : gdE} {al : Int32} {r : gdR} (hd : 180 ≤ d) (hs : SS h a σ) (hx : XC (gI h) a σ E al r) {m : Nat} (hr : RI E m r) (hm : m < 1000000) (hE : EI E) (hl : LWf h (eL E)) (p : Nat) (hp : p < 7) : run gd_P0 d 153 [.ref a, .int (Int32.ofNat p)] h = some (.inl (some (.int (pGr E al r p))), wI h (sgt (gI h) (a + 8) (pFa E al r p))) := by
  obtain ⟨d, rfl⟩ : ∃ e, d = e + 1 := ⟨d - 1, by omega⟩
  obtain ⟨⟨hA1, hA2, hS1⟩, ⟨tA, rA8, tLw, rA9⟩, ⟨rA0, tA1, lA1⟩, ⟨rA1, tA2, lA2⟩, ⟨rA2, tA3, lA3⟩, ⟨rA3, tA4, lA4⟩, ⟨rA4, tA5, lA5⟩, ⟨rA5, tA6, lA6⟩, ⟨rA6, tA7, lA7⟩, ⟨rA7, tA8⟩, tS, ⟨rS0, tS1, lS1⟩, ⟨rS1, tS2, lS2⟩, ⟨rS2, tS3, lS3⟩, ⟨rS3, tS4, lS4⟩, ⟨rS4, tS5, lS5⟩, ⟨rS5, tS6, lS6⟩⟩ := id hs
  obtain ⟨⟨hB, hN⟩, ⟨iB, iN⟩, iG, iK, iR, cH, cF, cO, cA, cC, cW, cT, cG, cM, cL⟩ := id hx
  rw [r153, s153_0]
  refine (lp_f (fun i x => go gd_P0 d 153 4 [.ref a, .int (Int32.ofNat p), .int x, .int (Int32.ofNat i)] [] h) (fun q n => if (eK E p >>> (Int32.ofNat q &&& 31)) &&& 1 = 1 ∧ r p < r q then n + 1 else n) (eN E) 0 ?_).trans ?_
  · intro i hi x
    try dsimp only
    rw [s153_4]
    by_cases c1 : (eK E p >>> (Int32.ofNat i &&& 31)) &&& 1 = 1
    · by_cases c2 : r i ≤ r p
      · simp (disch := first | omega | assumption) only [tA, rA8, tLw, rA9, rA0, tA1, lA1, rA1, tA2, lA2, rA2, tA3, lA3, rA3, tA4, lA4, rA4, tA5, lA5, rA5, tA6, lA6, rA6, tA7, lA7, rA7, tA8, tS, rS0, tS1, lS1, rS1, tS2, lS2, rS2, tS3, lS3, rS3, tS4, lS4, rS4, tS5, lS5, rS5, tS6, lS6, iB, iN, iG, iK, iR, cH, cF, cO, cA, cC, cT, cG, cM, cL, c1, c2, Int32.not_lt.mpr c2, s153_50, gT_wI, gR_wI, gL_wI, gS_wI, gU_wI, gI_wI, gJ_wI, gI_wJ, gJ_wJ, gR_wJ, gT_wJ, gL_wJ, gS_wJ, gU_wJ, gI_wR, gJ_wR, gR_wR, gT_wR, gL_wR, gS_wR, gU_wR, wI_wI, wJ_wJ, wR_wR, j_s, j_add, j_addL, j_addR, j_mulL, j_mulR, j_cl, j_clL, j_neg, j_negL, j_nn, j_lt, j_le, j_eq, j_ltL, j_ltR, j_leL, j_leR, j_eqL, j_eqR, j_m1, j_m1L, j_m1R, j_eqLL, j_ltLL, j_leLL, n_le0, n_le1, n_lt0, n_lt1, gc_v, gc_n, ↓reduceIte, and_true, true_and, and_self, or_self, or_false, false_or, not_false_eq_true, not_true_eq_false, false_and, and_false, Nat.reduceAdd, Nat.reduceEqDiff, Nat.reduceLeDiff, Nat.reduceLT]
      · simp (disch := first | omega | assumption) only [tA, rA8, tLw, rA9, rA0, tA1, lA1, rA1, tA2, lA2, rA2, tA3, lA3, rA3, tA4, lA4, rA4, tA5, lA5, rA5, tA6, lA6, rA6, tA7, lA7, rA7, tA8, tS, rS0, tS1, lS1, rS1, tS2, lS2, rS2, tS3, lS3, rS3, tS4, lS4, rS4, tS5, lS5, rS5, tS6, lS6, iB, iN, iG, iK, iR, cH, cF, cO, cA, cC, cT, cG, cM, cL, c1, c2, Int32.not_le.mp c2, s153_50, gT_wI, gR_wI, gL_wI, gS_wI, gU_wI, gI_wI, gJ_wI, gI_wJ, gJ_wJ, gR_wJ, gT_wJ, gL_wJ, gS_wJ, gU_wJ, gI_wR, gJ_wR, gR_wR, gT_wR, gL_wR, gS_wR, gU_wR, wI_wI, wJ_wJ, wR_wR, j_s, j_add, j_addL, j_addR, j_mulL, j_mulR, j_cl, j_clL, j_neg, j_negL, j_nn, j_lt, j_le, j_eq, j_ltL, j_ltR, j_leL, j_leR, j_eqL, j_eqR, j_m1, j_m1L, j_m1R, j_eqLL, j_ltLL, j_leLL, n_le0, n_le1, n_lt0, n_lt1, gc_v, gc_n, ↓reduceIte, and_true, true_and, and_self, or_self, or_false, false_or, not_false_eq_true, not_true_eq_false, false_and, and_false, Nat.reduceAdd, Nat.reduceEqDiff, Nat.reduceLeDiff, Nat.reduceLT]
    · simp (disch := first | omega | assumption) only [tA, rA8, tLw, rA9, rA0, tA1, lA1, rA1, tA2, lA2, rA2, tA3, lA3, rA3, tA4, lA4, rA4, tA5, lA5, rA5, tA6, lA6, rA6, tA7, lA7, rA7, tA8, tS, rS0, tS1, lS1, rS1, tS2, lS2, rS2, tS3, lS3, rS3, tS4, lS4, rS4, tS5, lS5, rS5, tS6, lS6, iB, iN, iG, iK, iR, cH, cF, cO, cA, cC, cT, cG, cM, cL, c1, s153_50, gT_wI, gR_wI, gL_wI, gS_wI, gU_wI, gI_wI, gJ_wI, gI_wJ, gJ_wJ, gR_wJ, gT_wJ, gL_wJ, gS_wJ, gU_wJ, gI_wR, gJ_wR, gR_wR, gT_wR, gL_wR, gS_wR, gU_wR, wI_wI, wJ_wJ, wR_wR, j_s, j_add, j_addL, j_addR, j_mulL, j_mulR, j_cl, j_clL, j_neg, j_negL, j_nn, j_lt, j_le, j_eq, j_ltL, j_ltR, j_leL, j_leR, j_eqL, j_eqR, j_m1, j_m1L, j_m1R, j_eqLL, j_ltLL, j_leLL, n_le0, n_le1, n_lt0, n_lt1, gc_v, gc_n, ↓reduceIte, and_true, true_and, and_self, or_self, or_false, false_or, not_false_eq_true, not_true_eq_false, false_and, and_false, Nat.reduceAdd, Nat.reduceEqDiff, Nat.reduceLeDiff, Nat.reduceLT]
  · try dsimp only
    have hx1 : ∀ (k : Nat) (v : Int32) (I : Nat → Nat → Int32), XC I a σ E al r → XC (up1 I (a + 8) k v) a σ E al r := fun k v I hI => hI.fr hS1 (fun b hb => up1_nc I k v (by omega))
    have e5 := hr.2.2.1
    rw [s153_4]
    simp (disch := first | omega | assumption) only [tA, rA8, tLw, rA9, rA0, tA1, lA1, rA1, tA2, lA2, rA2, tA3, lA3, rA3, tA4, lA4, rA4, tA5, lA5, rA5, tA6, lA6, rA6, tA7, lA7, rA7, tA8, tS, rS0, tS1, lS1, rS1, tS2, lS2, rS2, tS3, lS3, rS3, tS4, lS4, rS4, tS5, lS5, rS5, tS6, lS6, iB, iN, iG, iK, iR, cH, cF, cO, cA, cC, cT, cG, cM, cL, up1_ne, gT_wI, gR_wI, gL_wI, gS_wI, gU_wI, gI_wI, gJ_wI, gI_wJ, gJ_wJ, gR_wJ, gT_wJ, gL_wJ, gS_wJ, gU_wJ, gI_wR, gJ_wR, gR_wR, gT_wR, gL_wR, gS_wR, gU_wR, wI_wI, wJ_wJ, wR_wR, j_s, j_add, j_addL, j_addR, j_mulL, j_mulR, j_cl, j_clL, j_neg, j_negL, j_nn, j_lt, j_le, j_eq, j_ltL, j_ltR, j_leL, j_leR, j_eqL, j_eqR, j_m1, j_m1L, j_m1R, j_eqLL, j_ltLL, j_leLL, n_le0, n_le1, n_lt0, n_lt1, gc_v, gc_n, ↓reduceIte, and_true, true_and, and_self, or_self, or_false, false_or, not_false_eq_true, not_true_eq_false, false_and, and_false, Nat.reduceAdd, Nat.reduceEqDiff, Nat.reduceLeDiff, Nat.reduceLT]
    have x3 : XC (up1 (up1 (up1 (gI h) (a + 8) 0 (r (7 + p))) (a + 8) 1 (r p)) (a + 8) 2 (pHi E r p)) a σ E al r := hx1 _ _ _ (hx1 _ _ _ (hx1 _ _ _ hx))
    show gc gd_P0 d 153 95 98 _ _ (run gd_P0 d 154 [.ref a] (wI h (up1 (up1 (up1 (gI h) (a + 8) 0 (r (7 + p))) (a + 8) 1 (r p)) (a + 8) 2 (pHi E r p)))) = _
    have x4 := hx1 3 (pRain E al r) _ x3
    have x6 := hx1 5 (r 49 - r 49 / 12 * 12) _ (hx1 4 (pGain r p) _ x4)
    rw [sp154 (d := d) (by omega) (hs.wI (up1 (up1 (up1 (gI h) (a + 8) 0 (r (7 + p))) (a + 8) 1 (r p)) (a + 8) 2 (pHi E r p))) x3 hr.2.2.1 hm, gc_v, s153_98]
    simp (disch := first | omega | assumption) only [tA, rA8, tLw, rA9, rA0, tA1, lA1, rA1, tA2, lA2, rA2, tA3, lA3, rA3, tA4, lA4, rA4, tA5, lA5, rA5, tA6, lA6, rA6, tA7, lA7, rA7, tA8, tS, rS0, tS1, lS1, rS1, tS2, lS2, rS2, tS3, lS3, rS3, tS4, lS4, rS4, tS5, lS5, rS5, tS6, lS6, iB, iN, iG, iK, iR, cH, cF, cO, cA, cC, cT, cG, cM, cL, up1_ne, gT_wI, gR_wI, gL_wI, gS_wI, gU_wI, gI_wI, gJ_wI, gI_wJ, gJ_wJ, gR_wJ, gT_wJ, gL_wJ, gS_wJ, gU_wJ, gI_wR, gJ_wR, gR_wR, gT_wR, gL_wR, gS_wR, gU_wR, wI_wI, wJ_wJ, wR_wR, j_s, j_add, j_addL, j_addR, j_mulL, j_mulR, j_cl, j_clL, j_neg, j_negL, j_nn, j_lt, j_le, j_eq, j_ltL, j_ltR, j_leL, j_leR, j_eqL, j_eqR, j_m1, j_m1L, j_m1R, j_eqLL, j_ltLL, j_leLL, n_le0, n_le1, n_lt0, n_lt1, gc_v, gc_n, ↓reduceIte, and_true, true_and, and_self, or_self, or_false, false_or, not_false_eq_true, not_true_eq_false, false_and, and_false, Nat.reduceAdd, Nat.reduceEqDiff, Nat.reduceLeDiff, Nat.reduceLT]
    rw [sp155 (d := d) (by omega) (hs.wI (up1 (up1 (up1 (up1 (gI h) (a + 8) 0 (r (7 + p))) (a + 8) 1 (r p)) (a + 8) 2 (pHi E r p)) (a + 8) 3 (pRain E al r))) x4 hr p hp, gc_v, s153_110]
    simp (disch := first | omega | assumption) only [tA, rA8, tLw, rA9, rA0, tA1, lA1, rA1, tA2, lA2, rA2, tA3, lA3, rA3, tA4, lA4, rA4, tA5, lA5, rA5, tA6, lA6, rA6, tA7, lA7, rA7, tA8, tS, rS0, tS1, lS1, rS1, tS2, lS2, rS2, tS3, lS3, rS3, tS4, lS4, rS4, tS5, lS5, rS5, tS6, lS6, iB, iN, iG, iK, iR, cH, cF, cO, cA, cC, cT, cG, cM, cL, up1_ne, gT_wI, gR_wI, gL_wI, gS_wI, gU_wI, gI_wI, gJ_wI, gI_wJ, gJ_wJ, gR_wJ, gT_wJ, gL_wJ, gS_wJ, gU_wJ, gI_wR, gJ_wR, gR_wR, gT_wR, gL_wR, gS_wR, gU_wR, wI_wI, wJ_wJ, wR_wR, j_s, j_add, j_addL, j_addR, j_mulL, j_mulR, j_cl, j_clL, j_neg, j_negL, j_nn, j_lt, j_le, j_eq, j_ltL, j_ltR, j_leL, j_leR, j_eqL, j_eqR, j_m1, j_m1L, j_m1R, j_eqLL, j_ltLL, j_leLL, n_le0, n_le1, n_lt0, n_lt1, gc_v, gc_n, ↓reduceIte, and_true, true_and, and_self, or_self, or_false, false_or, not_false_eq_true, not_true_eq_false, false_and, and_false, Nat.reduceAdd, Nat.reduceEqDiff, Nat.reduceLeDiff, Nat.reduceLT]
    rw [sp158 (d := d) (by omega) (hs.wI (up1 (up1 (up1 (up1 (up1 (up1 (gI h) (a + 8) 0 (r (7 + p))) (a + 8) 1 (r p)) (a + 8) 2 (pHi E r p)) (a + 8) 3 (pRain E al r)) (a + 8) 4 (pGain r p)) (a + 8) 5 (r 49 - r 49 / 12 * 12))) x6, gc_v, s153_135]
    simp (disch := first | omega | assumption) only [tA, rA8, tLw, rA9, rA0, tA1, lA1, rA1, tA2, lA2, rA2, tA3, lA3, rA3, tA4, lA4, rA4, tA5, lA5, rA5, tA6, lA6, rA6, tA7, lA7, rA7, tA8, tS, rS0, tS1, lS1, rS1, tS2, lS2, rS2, tS3, lS3, rS3, tS4, lS4, rS4, tS5, lS5, rS5, tS6, lS6, iB, iN, iG, iK, iR, cH, cF, cO, cA, cC, cT, cG, cM, cL, up1_ne, gT_wI, gR_wI, gL_wI, gS_wI, gU_wI, gI_wI, gJ_wI, gI_wJ, gJ_wJ, gR_wJ, gT_wJ, gL_wJ, gS_wJ, gU_wJ, gI_wR, gJ_wR, gR_wR, gT_wR, gL_wR, gS_wR, gU_wR, wI_wI, wJ_wJ, wR_wR, j_s, j_add, j_addL, j_addR, j_mulL, j_mulR, j_cl, j_clL, j_neg, j_negL, j_nn, j_lt, j_le, j_eq, j_ltL, j_ltR, j_leL, j_leR, j_eqL, j_eqR, j_m1, j_m1L, j_m1R, j_eqLL, j_ltLL, j_leLL, n_le0, n_le1, n_lt0, n_lt1, gc_v, gc_n, ↓reduceIte, and_true, true_and, and_self, or_self, or_false, false_or, not_false_eq_true, not_true_eq_false, false_and, and_false, Nat.reduceAdd, Nat.reduceEqDiff, Nat.reduceLeDiff, Nat.reduceLT]
    have hl2 := hl d (a + 8) (sgt (gI h) (a + 8) (pFa E al r p)) (by omega) (fun b hb => sgt_ne _ _ (by omega)) tA8
    rw [hE.2.2 _ (pFa E al r p) (sgt_at (gI h) (a + 8) (pFa E al r p))] at hl2
    refine (congrArg (gc gd_P0 d 153 154 157 _ _) hl2).trans ?_
    rw [gc_v, s153_157]
    rfl
theorem sp159 {d : Nat} {h : gd_H} {a σ : Nat} {E : gdE} {al : Int32} {r : gdR} (hd : 2 ≤ d) (hs : SS h a σ) (hx : XC (gI h) a σ E al r) {m : Nat} (e : r 49 = Int32.ofNat m) (hm : m < 1000000) (k : Nat) (hk : k < eB E) : run gd_P0 d 159 [.ref a, .int (Int32.ofNat k)] h = some (.inl (some (.int (pTh E al r k - r (42 + k)))), h) := by
  obtain ⟨d, rfl⟩ : ∃ e, d = e + 1 := ⟨d - 1, by omega⟩
  obtain ⟨⟨hA1, hA2, hS1⟩, ⟨tA, rA8, tLw, rA9⟩, ⟨rA0, tA1, lA1⟩, ⟨rA1, tA2, lA2⟩, ⟨rA2, tA3, lA3⟩, ⟨rA3, tA4, lA4⟩, ⟨rA4, tA5, lA5⟩, ⟨rA5, tA6, lA6⟩, ⟨rA6, tA7, lA7⟩, ⟨rA7, tA8⟩, tS, ⟨rS0, tS1, lS1⟩, ⟨rS1, tS2, lS2⟩, ⟨rS2, tS3, lS3⟩, ⟨rS3, tS4, lS4⟩, ⟨rS4, tS5, lS5⟩, ⟨rS5, tS6, lS6⟩⟩ := id hs
  obtain ⟨⟨hB, hN⟩, ⟨iB, iN⟩, iG, iK, iR, cH, cF, cO, cA, cC, cW, cT, cG, cM, cL⟩ := id hx
  rw [r159, s159_0]
  simp (disch := first | omega | assumption) only [tA, rA8, tLw, rA9, rA0, tA1, lA1, rA1, tA2, lA2, rA2, tA3, lA3, rA3, tA4, lA4, rA4, tA5, lA5, rA5, tA6, lA6, rA6, tA7, lA7, rA7, tA8, tS, rS0, tS1, lS1, rS1, tS2, lS2, rS2, tS3, lS3, rS3, tS4, lS4, rS4, tS5, lS5, rS5, tS6, lS6, iB, iN, iG, iK, iR, cH, cF, cO, cA, cC, cT, cG, cM, cL, sp154 (d := d) (by omega) hs hx e hm, s159_23, s159_34, s159_38, gT_wI, gR_wI, gL_wI, gS_wI, gU_wI, gI_wI, gJ_wI, gI_wJ, gJ_wJ, gR_wJ, gT_wJ, gL_wJ, gS_wJ, gU_wJ, gI_wR, gJ_wR, gR_wR, gT_wR, gL_wR, gS_wR, gU_wR, wI_wI, wJ_wJ, wR_wR, j_s, j_add, j_addL, j_addR, j_mulL, j_mulR, j_cl, j_clL, j_neg, j_negL, j_nn, j_lt, j_le, j_eq, j_ltL, j_ltR, j_leL, j_leR, j_eqL, j_eqR, j_m1, j_m1L, j_m1R, j_eqLL, j_ltLL, j_leLL, n_le0, n_le1, n_lt0, n_lt1, gc_v, gc_n, ↓reduceIte, and_true, true_and, and_self, or_self, or_false, false_or, not_false_eq_true, not_true_eq_false, false_and, and_false, Nat.reduceAdd, Nat.reduceEqDiff, Nat.reduceLeDiff, Nat.reduceLT]
  rfl
theorem sp162 {d : Nat} {h : gd_H} {a σ : Nat} {E : gdE} {al : Int32} {r : gdR} (hd : 2 ≤ d) (hs : SS h a σ) (hx : XC (gI h) a σ E al r) (v : Int32) : run gd_P0 d 162 [.ref a, .int v] h = some (.inl (some (.int (pLi E r v))), h) := by
  obtain ⟨d, rfl⟩ : ∃ e, d = e + 1 := ⟨d - 1, by omega⟩
  obtain ⟨⟨hA1, hA2, hS1⟩, ⟨tA, rA8, tLw, rA9⟩, ⟨rA0, tA1, lA1⟩, ⟨rA1, tA2, lA2⟩, ⟨rA2, tA3, lA3⟩, ⟨rA3, tA4, lA4⟩, ⟨rA4, tA5, lA5⟩, ⟨rA5, tA6, lA6⟩, ⟨rA6, tA7, lA7⟩, ⟨rA7, tA8⟩, tS, ⟨rS0, tS1, lS1⟩, ⟨rS1, tS2, lS2⟩, ⟨rS2, tS3, lS3⟩, ⟨rS3, tS4, lS4⟩, ⟨rS4, tS5, lS5⟩, ⟨rS5, tS6, lS6⟩⟩ := id hs
  obtain ⟨⟨hB, hN⟩, ⟨iB, iN⟩, iG, iK, iR, cH, cF, cO, cA, cC, cW, cT, cG, cM, cL⟩ := id hx
  rw [r162, s162_0]
  refine lp_fi (fun i => go gd_P0 d 162 2 [.ref a, .int v, .int (Int32.ofNat i)] [] h) (fun x => some (.inl (some (.int x)), h)) (fun k => decide (v ≤ pb r (k + 1))) Int32.ofNat (-1) (eB E) 0 ?_ ?_
  · intro i hi hi2
    try dsimp only
    rw [s162_2]
    by_cases c : v ≤ pb r (i + 1)
    · have c2 : ¬ pb r (i + 1) < v := fun z => absurd (Int32.lt_of_lt_of_le z c) Int32.lt_irrefl
      simp (disch := first | omega | assumption) only [tA, rA8, tLw, rA9, rA0, tA1, lA1, rA1, tA2, lA2, rA2, tA3, lA3, rA3, tA4, lA4, rA4, tA5, lA5, rA5, tA6, lA6, rA6, tA7, lA7, rA7, tA8, tS, rS0, tS1, lS1, rS1, tS2, lS2, rS2, tS3, lS3, rS3, tS4, lS4, rS4, tS5, lS5, rS5, tS6, lS6, iB, iN, iG, iK, iR, cH, cF, cO, cA, cC, cT, cG, cM, cL, c, c2, sp157 (d := d) (by omega) hs hx, s162_21, decide_true, gT_wI, gR_wI, gL_wI, gS_wI, gU_wI, gI_wI, gJ_wI, gI_wJ, gJ_wJ, gR_wJ, gT_wJ, gL_wJ, gS_wJ, gU_wJ, gI_wR, gJ_wR, gR_wR, gT_wR, gL_wR, gS_wR, gU_wR, wI_wI, wJ_wJ, wR_wR, j_s, j_add, j_addL, j_addR, j_mulL, j_mulR, j_cl, j_clL, j_neg, j_negL, j_nn, j_lt, j_le, j_eq, j_ltL, j_ltR, j_leL, j_leR, j_eqL, j_eqR, j_m1, j_m1L, j_m1R, j_eqLL, j_ltLL, j_leLL, n_le0, n_le1, n_lt0, n_lt1, gc_v, gc_n, ↓reduceIte, and_true, true_and, and_self, or_self, or_false, false_or, not_false_eq_true, not_true_eq_false, false_and, and_false, Nat.reduceAdd, Nat.reduceEqDiff, Nat.reduceLeDiff, Nat.reduceLT]
    · have c2 : pb r (i + 1) < v := Int32.not_le.mp c
      simp (disch := first | omega | assumption) only [tA, rA8, tLw, rA9, rA0, tA1, lA1, rA1, tA2, lA2, rA2, tA3, lA3, rA3, tA4, lA4, rA4, tA5, lA5, rA5, tA6, lA6, rA6, tA7, lA7, rA7, tA8, tS, rS0, tS1, lS1, rS1, tS2, lS2, rS2, tS3, lS3, rS3, tS4, lS4, rS4, tS5, lS5, rS5, tS6, lS6, iB, iN, iG, iK, iR, cH, cF, cO, cA, cC, cT, cG, cM, cL, c, c2, sp157 (d := d) (by omega) hs hx, s162_21, decide_false, Bool.false_eq_true, gT_wI, gR_wI, gL_wI, gS_wI, gU_wI, gI_wI, gJ_wI, gI_wJ, gJ_wJ, gR_wJ, gT_wJ, gL_wJ, gS_wJ, gU_wJ, gI_wR, gJ_wR, gR_wR, gT_wR, gL_wR, gS_wR, gU_wR, wI_wI, wJ_wJ, wR_wR, j_s, j_add, j_addL, j_addR, j_mulL, j_mulR, j_cl, j_clL, j_neg, j_negL, j_nn, j_lt, j_le, j_eq, j_ltL, j_ltR, j_leL, j_leR, j_eqL, j_eqR, j_m1, j_m1L, j_m1R, j_eqLL, j_ltLL, j_leLL, n_le0, n_le1, n_lt0, n_lt1, gc_v, gc_n, ↓reduceIte, and_true, true_and, and_self, or_self, or_false, false_or, not_false_eq_true, not_true_eq_false, false_and, and_false, Nat.reduceAdd, Nat.reduceEqDiff, Nat.reduceLeDiff, Nat.reduceLT]
  · try dsimp only
    rw [s162_2]
    simp (disch := first | omega | assumption) only [tA, rA8, tLw, rA9, rA0, tA1, lA1, rA1, tA2, lA2, rA2, tA3, lA3, rA3, tA4, lA4, rA4, tA5, lA5, rA5, tA6, lA6, rA6, tA7, lA7, rA7, tA8, tS, rS0, tS1, lS1, rS1, tS2, lS2, rS2, tS3, lS3, rS3, tS4, lS4, rS4, tS5, lS5, rS5, tS6, lS6, iB, iN, iG, iK, iR, cH, cF, cO, cA, cC, cT, cG, cM, cL, Nat.zero_add, gT_wI, gR_wI, gL_wI, gS_wI, gU_wI, gI_wI, gJ_wI, gI_wJ, gJ_wJ, gR_wJ, gT_wJ, gL_wJ, gS_wJ, gU_wJ, gI_wR, gJ_wR, gR_wR, gT_wR, gL_wR, gS_wR, gU_wR, wI_wI, wJ_wJ, wR_wR, j_s, j_add, j_addL, j_addR, j_mulL, j_mulR, j_cl, j_clL, j_neg, j_negL, j_nn, j_lt, j_le, j_eq, j_ltL, j_ltR, j_leL, j_leR, j_eqL, j_eqR, j_m1, j_m1L, j_m1R, j_eqLL, j_ltLL, j_leLL, n_le0, n_le1, n_lt0, n_lt1, gc_v, gc_n, ↓reduceIte, and_true, true_and, and_self, or_self, or_false, false_or, not_false_eq_true, not_true_eq_false, false_and, and_false, Nat.reduceAdd, Nat.reduceEqDiff, Nat.reduceLeDiff, Nat.reduceLT]
theorem sp168 {d : Nat} {h : gd_H} {a σ : Nat} {E : gdE} {al : Int32} {r : gdR} (hd : 1 ≤ d) (hs : SS h a σ) (hx : XC (gI h) a σ E al r) : run gd_P0 d 168 [.ref a] h = some (.inl (some (.int (pHs E r))), h) := by
  obtain ⟨d, rfl⟩ : ∃ e, d = e + 1 := ⟨d - 1, by omega⟩
  obtain ⟨⟨hA1, hA2, hS1⟩, ⟨tA, rA8, tLw, rA9⟩, ⟨rA0, tA1, lA1⟩, ⟨rA1, tA2, lA2⟩, ⟨rA2, tA3, lA3⟩, ⟨rA3, tA4, lA4⟩, ⟨rA4, tA5, lA5⟩, ⟨rA5, tA6, lA6⟩, ⟨rA6, tA7, lA7⟩, ⟨rA7, tA8⟩, tS, ⟨rS0, tS1, lS1⟩, ⟨rS1, tS2, lS2⟩, ⟨rS2, tS3, lS3⟩, ⟨rS3, tS4, lS4⟩, ⟨rS4, tS5, lS5⟩, ⟨rS5, tS6, lS6⟩⟩ := id hs
  obtain ⟨⟨hB, hN⟩, ⟨iB, iN⟩, iG, iK, iR, cH, cF, cO, cA, cC, cW, cT, cG, cM, cL⟩ := id hx
  rw [r168, s168_0]
  refine (lp_f (fun i x => go gd_P0 d 168 4 [.ref a, .int x, .int (Int32.ofNat i)] [] h) (fun p n => n + r p) (eN E) 0 ?_).trans ?_
  · intro i hi x
    try dsimp only
    rw [s168_4]
    simp (disch := first | omega | assumption) only [tA, rA8, tLw, rA9, rA0, tA1, lA1, rA1, tA2, lA2, rA2, tA3, lA3, rA3, tA4, lA4, rA4, tA5, lA5, rA5, tA6, lA6, rA6, tA7, lA7, rA7, tA8, tS, rS0, tS1, lS1, rS1, tS2, lS2, rS2, tS3, lS3, rS3, tS4, lS4, rS4, tS5, lS5, rS5, tS6, lS6, iB, iN, iG, iK, iR, cH, cF, cO, cA, cC, cT, cG, cM, cL, gT_wI, gR_wI, gL_wI, gS_wI, gU_wI, gI_wI, gJ_wI, gI_wJ, gJ_wJ, gR_wJ, gT_wJ, gL_wJ, gS_wJ, gU_wJ, gI_wR, gJ_wR, gR_wR, gT_wR, gL_wR, gS_wR, gU_wR, wI_wI, wJ_wJ, wR_wR, j_s, j_add, j_addL, j_addR, j_mulL, j_mulR, j_cl, j_clL, j_neg, j_negL, j_nn, j_lt, j_le, j_eq, j_ltL, j_ltR, j_leL, j_leR, j_eqL, j_eqR, j_m1, j_m1L, j_m1R, j_eqLL, j_ltLL, j_leLL, n_le0, n_le1, n_lt0, n_lt1, gc_v, gc_n, ↓reduceIte, and_true, true_and, and_self, or_self, or_false, false_or, not_false_eq_true, not_true_eq_false, false_and, and_false, Nat.reduceAdd, Nat.reduceEqDiff, Nat.reduceLeDiff, Nat.reduceLT]
  · try dsimp only
    rw [s168_4]
    simp (disch := first | omega | assumption) only [tA, rA8, tLw, rA9, rA0, tA1, lA1, rA1, tA2, lA2, rA2, tA3, lA3, rA3, tA4, lA4, rA4, tA5, lA5, rA5, tA6, lA6, rA6, tA7, lA7, rA7, tA8, tS, rS0, tS1, lS1, rS1, tS2, lS2, rS2, tS3, lS3, rS3, tS4, lS4, rS4, tS5, lS5, rS5, tS6, lS6, iB, iN, iG, iK, iR, cH, cF, cO, cA, cC, cT, cG, cM, cL, gT_wI, gR_wI, gL_wI, gS_wI, gU_wI, gI_wI, gJ_wI, gI_wJ, gJ_wJ, gR_wJ, gT_wJ, gL_wJ, gS_wJ, gU_wJ, gI_wR, gJ_wR, gR_wR, gT_wR, gL_wR, gS_wR, gU_wR, wI_wI, wJ_wJ, wR_wR, j_s, j_add, j_addL, j_addR, j_mulL, j_mulR, j_cl, j_clL, j_neg, j_negL, j_nn, j_lt, j_le, j_eq, j_ltL, j_ltR, j_leL, j_leR, j_eqL, j_eqR, j_m1, j_m1L, j_m1R, j_eqLL, j_ltLL, j_leLL, n_le0, n_le1, n_lt0, n_lt1, gc_v, gc_n, ↓reduceIte, and_true, true_and, and_self, or_self, or_false, false_or, not_false_eq_true, not_true_eq_false, false_and, and_false, Nat.reduceAdd, Nat.reduceEqDiff, Nat.reduceLeDiff, Nat.reduceLT]
    rfl
theorem sp167 {d : Nat} {h : gd_H} {a σ : Nat} {E : gdE} {al : Int32} {r : gdR} (hd : 4 ≤ d) (hs : SS h a σ) (hx : XC (gI h) a σ E al r) {m : Nat} (hr : RI E m r) : run gd_P0 d 167 [.ref a] h = some (.inl (some (.int (pFam E r))), h) := by
  obtain ⟨d, rfl⟩ : ∃ e, d = e + 1 := ⟨d - 1, by omega⟩
  obtain ⟨⟨hA1, hA2, hS1⟩, ⟨tA, rA8, tLw, rA9⟩, ⟨rA0, tA1, lA1⟩, ⟨rA1, tA2, lA2⟩, ⟨rA2, tA3, lA3⟩, ⟨rA3, tA4, lA4⟩, ⟨rA4, tA5, lA5⟩, ⟨rA5, tA6, lA6⟩, ⟨rA6, tA7, lA7⟩, ⟨rA7, tA8⟩, tS, ⟨rS0, tS1, lS1⟩, ⟨rS1, tS2, lS2⟩, ⟨rS2, tS3, lS3⟩, ⟨rS3, tS4, lS4⟩, ⟨rS4, tS5, lS5⟩, ⟨rS5, tS6, lS6⟩⟩ := id hs
  obtain ⟨⟨hB, hN⟩, ⟨iB, iN⟩, iG, iK, iR, cH, cF, cO, cA, cC, cW, cT, cG, cM, cL⟩ := id hx
  rw [r167, s167_0]
  have L := lp_p (fun i x => go gd_P0 d 167 4 [.ref a, .int x, .int (Int32.ofNat i)] [] h) (fun p b => if r (14 + p) = -1 then b else if b = -1 then Int32.ofNat p else if pGain r p ≤ pGain r b.toNatClampNeg then b else Int32.ofNat p) (fun i x => x = -1 ∨ ∃ q, q < i ∧ x = Int32.ofNat q) (eN E) (-1) (Or.inl rfl) ?_
  · refine L.1.trans ?_
    try dsimp only
    rw [s167_4]
    simp (disch := first | omega | assumption) only [tA, rA8, tLw, rA9, rA0, tA1, lA1, rA1, tA2, lA2, rA2, tA3, lA3, rA3, tA4, lA4, rA4, tA5, lA5, rA5, tA6, lA6, rA6, tA7, lA7, rA7, tA8, tS, rS0, tS1, lS1, rS1, tS2, lS2, rS2, tS3, lS3, rS3, tS4, lS4, rS4, tS5, lS5, rS5, tS6, lS6, iB, iN, iG, iK, iR, cH, cF, cO, cA, cC, cT, cG, cM, cL, gT_wI, gR_wI, gL_wI, gS_wI, gU_wI, gI_wI, gJ_wI, gI_wJ, gJ_wJ, gR_wJ, gT_wJ, gL_wJ, gS_wJ, gU_wJ, gI_wR, gJ_wR, gR_wR, gT_wR, gL_wR, gS_wR, gU_wR, wI_wI, wJ_wJ, wR_wR, j_s, j_add, j_addL, j_addR, j_mulL, j_mulR, j_cl, j_clL, j_neg, j_negL, j_nn, j_lt, j_le, j_eq, j_ltL, j_ltR, j_leL, j_leR, j_eqL, j_eqR, j_m1, j_m1L, j_m1R, j_eqLL, j_ltLL, j_leLL, n_le0, n_le1, n_lt0, n_lt1, gc_v, gc_n, ↓reduceIte, and_true, true_and, and_self, or_self, or_false, false_or, not_false_eq_true, not_true_eq_false, false_and, and_false, Nat.reduceAdd, Nat.reduceEqDiff, Nat.reduceLeDiff, Nat.reduceLT]
    rfl
  · intro i hi x hxx
    try dsimp only
    rw [s167_4]
    by_cases c1 : r (14 + i) = -1
    · simp (disch := first | omega | assumption) only [tA, rA8, tLw, rA9, rA0, tA1, lA1, rA1, tA2, lA2, rA2, tA3, lA3, rA3, tA4, lA4, rA4, tA5, lA5, rA5, tA6, lA6, rA6, tA7, lA7, rA7, tA8, tS, rS0, tS1, lS1, rS1, tS2, lS2, rS2, tS3, lS3, rS3, tS4, lS4, rS4, tS5, lS5, rS5, tS6, lS6, iB, iN, iG, iK, iR, cH, cF, cO, cA, cC, cT, cG, cM, cL, c1, s167_45, gT_wI, gR_wI, gL_wI, gS_wI, gU_wI, gI_wI, gJ_wI, gI_wJ, gJ_wJ, gR_wJ, gT_wJ, gL_wJ, gS_wJ, gU_wJ, gI_wR, gJ_wR, gR_wR, gT_wR, gL_wR, gS_wR, gU_wR, wI_wI, wJ_wJ, wR_wR, j_s, j_add, j_addL, j_addR, j_mulL, j_mulR, j_cl, j_clL, j_neg, j_negL, j_nn, j_lt, j_le, j_eq, j_ltL, j_ltR, j_leL, j_leR, j_eqL, j_eqR, j_m1, j_m1L, j_m1R, j_eqLL, j_ltLL, j_leLL, n_le0, n_le1, n_lt0, n_lt1, gc_v, gc_n, ↓reduceIte, and_true, true_and, and_self, or_self, or_false, false_or, not_false_eq_true, not_true_eq_false, false_and, and_false, Nat.reduceAdd, Nat.reduceEqDiff, Nat.reduceLeDiff, Nat.reduceLT]
      rcases hxx with z | ⟨q, z1, z2⟩
      · first | exact Or.inl z | exact ⟨trivial, Or.inl z⟩
      · first | exact ⟨i, by omega, rfl⟩ | exact ⟨q, by omega, rfl⟩ | exact Or.inr ⟨q, by omega, z2⟩ | exact ⟨trivial, Or.inr ⟨q, by omega, z2⟩⟩
    · rcases hxx with z | ⟨q, z1, z2⟩
      · simp (disch := first | omega | assumption) only [tA, rA8, tLw, rA9, rA0, tA1, lA1, rA1, tA2, lA2, rA2, tA3, lA3, rA3, tA4, lA4, rA4, tA5, lA5, rA5, tA6, lA6, rA6, tA7, lA7, rA7, tA8, tS, rS0, tS1, lS1, rS1, tS2, lS2, rS2, tS3, lS3, rS3, tS4, lS4, rS4, tS5, lS5, rS5, tS6, lS6, iB, iN, iG, iK, iR, cH, cF, cO, cA, cC, cT, cG, cM, cL, c1, z, s167_43, s167_45, gT_wI, gR_wI, gL_wI, gS_wI, gU_wI, gI_wI, gJ_wI, gI_wJ, gJ_wJ, gR_wJ, gT_wJ, gL_wJ, gS_wJ, gU_wJ, gI_wR, gJ_wR, gR_wR, gT_wR, gL_wR, gS_wR, gU_wR, wI_wI, wJ_wJ, wR_wR, j_s, j_add, j_addL, j_addR, j_mulL, j_mulR, j_cl, j_clL, j_neg, j_negL, j_nn, j_lt, j_le, j_eq, j_ltL, j_ltR, j_leL, j_leR, j_eqL, j_eqR, j_m1, j_m1L, j_m1R, j_eqLL, j_ltLL, j_leLL, n_le0, n_le1, n_lt0, n_lt1, gc_v, gc_n, ↓reduceIte, and_true, true_and, and_self, or_self, or_false, false_or, not_false_eq_true, not_true_eq_false, false_and, and_false, Nat.reduceAdd, Nat.reduceEqDiff, Nat.reduceLeDiff, Nat.reduceLT]
        first | exact ⟨i, by omega, rfl⟩ | exact ⟨q, by omega, rfl⟩ | exact Or.inr ⟨i, by omega, rfl⟩ | exact ⟨trivial, Or.inr ⟨i, by omega, rfl⟩⟩
      · by_cases c2 : pGain r i ≤ pGain r q
        · simp (disch := first | omega | assumption) only [tA, rA8, tLw, rA9, rA0, tA1, lA1, rA1, tA2, lA2, rA2, tA3, lA3, rA3, tA4, lA4, rA4, tA5, lA5, rA5, tA6, lA6, rA6, tA7, lA7, rA7, tA8, tS, rS0, tS1, lS1, rS1, tS2, lS2, rS2, tS3, lS3, rS3, tS4, lS4, rS4, tS5, lS5, rS5, tS6, lS6, iB, iN, iG, iK, iR, cH, cF, cO, cA, cC, cT, cG, cM, cL, c1, z2, c2, sp155 (d := d) (by omega) hs hx hr, s167_35, s167_40, s167_43, s167_45, gT_wI, gR_wI, gL_wI, gS_wI, gU_wI, gI_wI, gJ_wI, gI_wJ, gJ_wJ, gR_wJ, gT_wJ, gL_wJ, gS_wJ, gU_wJ, gI_wR, gJ_wR, gR_wR, gT_wR, gL_wR, gS_wR, gU_wR, wI_wI, wJ_wJ, wR_wR, j_s, j_add, j_addL, j_addR, j_mulL, j_mulR, j_cl, j_clL, j_neg, j_negL, j_nn, j_lt, j_le, j_eq, j_ltL, j_ltR, j_leL, j_leR, j_eqL, j_eqR, j_m1, j_m1L, j_m1R, j_eqLL, j_ltLL, j_leLL, n_le0, n_le1, n_lt0, n_lt1, gc_v, gc_n, ↓reduceIte, and_true, true_and, and_self, or_self, or_false, false_or, not_false_eq_true, not_true_eq_false, false_and, and_false, Nat.reduceAdd, Nat.reduceEqDiff, Nat.reduceLeDiff, Nat.reduceLT]
          first | exact ⟨i, by omega, rfl⟩ | exact ⟨q, by omega, rfl⟩ | exact Or.inr ⟨q, by omega, rfl⟩ | exact ⟨trivial, Or.inr ⟨q, by omega, rfl⟩⟩
        · simp (disch := first | omega | assumption) only [tA, rA8, tLw, rA9, rA0, tA1, lA1, rA1, tA2, lA2, rA2, tA3, lA3, rA3, tA4, lA4, rA4, tA5, lA5, rA5, tA6, lA6, rA6, tA7, lA7, rA7, tA8, tS, rS0, tS1, lS1, rS1, tS2, lS2, rS2, tS3, lS3, rS3, tS4, lS4, rS4, tS5, lS5, rS5, tS6, lS6, iB, iN, iG, iK, iR, cH, cF, cO, cA, cC, cT, cG, cM, cL, c1, z2, c2, sp155 (d := d) (by omega) hs hx hr, s167_35, s167_40, s167_43, s167_45, gT_wI, gR_wI, gL_wI, gS_wI, gU_wI, gI_wI, gJ_wI, gI_wJ, gJ_wJ, gR_wJ, gT_wJ, gL_wJ, gS_wJ, gU_wJ, gI_wR, gJ_wR, gR_wR, gT_wR, gL_wR, gS_wR, gU_wR, wI_wI, wJ_wJ, wR_wR, j_s, j_add, j_addL, j_addR, j_mulL, j_mulR, j_cl, j_clL, j_neg, j_negL, j_nn, j_lt, j_le, j_eq, j_ltL, j_ltR, j_leL, j_leR, j_eqL, j_eqR, j_m1, j_m1L, j_m1R, j_eqLL, j_ltLL, j_leLL, n_le0, n_le1, n_lt0, n_lt1, gc_v, gc_n, ↓reduceIte, and_true, true_and, and_self, or_self, or_false, false_or, not_false_eq_true, not_true_eq_false, false_and, and_false, Nat.reduceAdd, Nat.reduceEqDiff, Nat.reduceLeDiff, Nat.reduceLT]
          first | exact ⟨i, by omega, rfl⟩ | exact ⟨q, by omega, rfl⟩ | exact Or.inr ⟨i, by omega, rfl⟩ | exact ⟨trivial, Or.inr ⟨i, by omega, rfl⟩⟩
theorem XC.wH {I : Nat → Nat → Int32} {a σ : Nat} {E : gdE} {al : Int32} {r : gdR} (hx : XC I a σ E al r) (hA2 : a + 16 ≤ 1212) (hS1 : 1223 < σ) {p : Nat} (hp : p < 7) (v : Int32) : XC (up1 I (a + 2) p v) a σ E al (rw1 r p v) := by
  obtain ⟨⟨hB, hN⟩, ⟨iB, iN⟩, iG, iK, iR, cH, cF, cO, cA, cC, cW, cT, cG, cM, cL⟩ := id hx
  refine ⟨⟨hB, hN⟩, ⟨?_, ?_⟩, ?_, ?_, ?_, ?_, ?_, ?_, ?_, ?_, ?_, ?_, ?_, ?_, ?_⟩
  · rw [up1_nc _ _ _ (by omega)]; exact iB
  · rw [up1_nc _ _ _ (by omega)]; exact iN
  · intro q hq; rw [up1_nc _ _ _ (by omega)]; exact iG q hq
  · intro q hq; rw [up1_nc _ _ _ (by omega)]; exact iK q hq
  · intro q hq; rw [up1_nc _ _ _ (by omega)]; exact iR q hq
  · intro q hq
    by_cases z : q = p
    · subst z; rw [up1_eq, rw1_eq]
    · rw [up1_nj _ _ z, rw1_ne _ _ (by omega)]; exact cH q hq
  · intro q hq; rw [up1_nc _ _ _ (by omega), rw1_ne _ _ (by omega)]; exact cF q hq
  · intro q hq; rw [up1_nc _ _ _ (by omega), rw1_ne _ _ (by omega)]; exact cO q hq
  · intro q hq; rw [up1_nc _ _ _ (by omega), rw1_ne _ _ (by omega)]; exact cA q hq
  · intro q hq; rw [up1_nc _ _ _ (by omega), rw1_ne _ _ (by omega)]; exact cC q hq
  · intro q hq; rw [up1_nc _ _ _ (by omega), rw1_ne _ _ (by omega)]; exact cW q hq
  · intro q hq; rw [up1_nc _ _ _ (by omega), rw1_ne _ _ (by omega)]; exact cT q hq
  · rw [up1_nc _ _ _ (by omega), rw1_ne _ _ (by omega)]; exact cG
  · rw [up1_nc _ _ _ (by omega), rw1_ne _ _ (by omega)]; exact cM
  · rw [up1_nc _ _ _ (by omega)]; exact cL
theorem XC.wF {I : Nat → Nat → Int32} {a σ : Nat} {E : gdE} {al : Int32} {r : gdR} (hx : XC I a σ E al r) (hA2 : a + 16 ≤ 1212) (hS1 : 1223 < σ) {p : Nat} (hp : p < 7) (v : Int32) : XC (up1 I (a + 3) p v) a σ E al (rw1 r (7 + p) v) := by
  obtain ⟨⟨hB, hN⟩, ⟨iB, iN⟩, iG, iK, iR, cH, cF, cO, cA, cC, cW, cT, cG, cM, cL⟩ := id hx
  refine ⟨⟨hB, hN⟩, ⟨?_, ?_⟩, ?_, ?_, ?_, ?_, ?_, ?_, ?_, ?_, ?_, ?_, ?_, ?_, ?_⟩
  · rw [up1_nc _ _ _ (by omega)]; exact iB
  · rw [up1_nc _ _ _ (by omega)]; exact iN
  · intro q hq; rw [up1_nc _ _ _ (by omega)]; exact iG q hq
  · intro q hq; rw [up1_nc _ _ _ (by omega)]; exact iK q hq
  · intro q hq; rw [up1_nc _ _ _ (by omega)]; exact iR q hq
  · intro q hq; rw [up1_nc _ _ _ (by omega), rw1_ne _ _ (by omega)]; exact cH q hq
  · intro q hq
    by_cases z : q = p
    · subst z; rw [up1_eq, rw1_eq]
    · rw [up1_nj _ _ z, rw1_ne _ _ (by omega)]; exact cF q hq
  · intro q hq; rw [up1_nc _ _ _ (by omega), rw1_ne _ _ (by omega)]; exact cO q hq
  · intro q hq; rw [up1_nc _ _ _ (by omega), rw1_ne _ _ (by omega)]; exact cA q hq
  · intro q hq; rw [up1_nc _ _ _ (by omega), rw1_ne _ _ (by omega)]; exact cC q hq
  · intro q hq; rw [up1_nc _ _ _ (by omega), rw1_ne _ _ (by omega)]; exact cW q hq
  · intro q hq; rw [up1_nc _ _ _ (by omega), rw1_ne _ _ (by omega)]; exact cT q hq
  · rw [up1_nc _ _ _ (by omega), rw1_ne _ _ (by omega)]; exact cG
  · rw [up1_nc _ _ _ (by omega), rw1_ne _ _ (by omega)]; exact cM
  · rw [up1_nc _ _ _ (by omega)]; exact cL
theorem XC.wO {I : Nat → Nat → Int32} {a σ : Nat} {E : gdE} {al : Int32} {r : gdR} (hx : XC I a σ E al r) (hA2 : a + 16 ≤ 1212) (hS1 : 1223 < σ) {p : Nat} (hp : p < 7) (v : Int32) : XC (up1 I (a + 4) p v) a σ E al (rw1 r (14 + p) v) := by
  obtain ⟨⟨hB, hN⟩, ⟨iB, iN⟩, iG, iK, iR, cH, cF, cO, cA, cC, cW, cT, cG, cM, cL⟩ := id hx
  refine ⟨⟨hB, hN⟩, ⟨?_, ?_⟩, ?_, ?_, ?_, ?_, ?_, ?_, ?_, ?_, ?_, ?_, ?_, ?_, ?_⟩
  · rw [up1_nc _ _ _ (by omega)]; exact iB
  · rw [up1_nc _ _ _ (by omega)]; exact iN
  · intro q hq; rw [up1_nc _ _ _ (by omega)]; exact iG q hq
  · intro q hq; rw [up1_nc _ _ _ (by omega)]; exact iK q hq
  · intro q hq; rw [up1_nc _ _ _ (by omega)]; exact iR q hq
  · intro q hq; rw [up1_nc _ _ _ (by omega), rw1_ne _ _ (by omega)]; exact cH q hq
  · intro q hq; rw [up1_nc _ _ _ (by omega), rw1_ne _ _ (by omega)]; exact cF q hq
  · intro q hq
    by_cases z : q = p
    · subst z; rw [up1_eq, rw1_eq]
    · rw [up1_nj _ _ z, rw1_ne _ _ (by omega)]; exact cO q hq
  · intro q hq; rw [up1_nc _ _ _ (by omega), rw1_ne _ _ (by omega)]; exact cA q hq
  · intro q hq; rw [up1_nc _ _ _ (by omega), rw1_ne _ _ (by omega)]; exact cC q hq
  · intro q hq; rw [up1_nc _ _ _ (by omega), rw1_ne _ _ (by omega)]; exact cW q hq
  · intro q hq; rw [up1_nc _ _ _ (by omega), rw1_ne _ _ (by omega)]; exact cT q hq
  · rw [up1_nc _ _ _ (by omega), rw1_ne _ _ (by omega)]; exact cG
  · rw [up1_nc _ _ _ (by omega), rw1_ne _ _ (by omega)]; exact cM
  · rw [up1_nc _ _ _ (by omega)]; exact cL
theorem XC.wA {I : Nat → Nat → Int32} {a σ : Nat} {E : gdE} {al : Int32} {r : gdR} (hx : XC I a σ E al r) (hA2 : a + 16 ≤ 1212) (hS1 : 1223 < σ) {p : Nat} (hp : p < 7) (v : Int32) : XC (up1 I (a + 5) p v) a σ E al (rw1 r (21 + p) v) := by
  obtain ⟨⟨hB, hN⟩, ⟨iB, iN⟩, iG, iK, iR, cH, cF, cO, cA, cC, cW, cT, cG, cM, cL⟩ := id hx
  refine ⟨⟨hB, hN⟩, ⟨?_, ?_⟩, ?_, ?_, ?_, ?_, ?_, ?_, ?_, ?_, ?_, ?_, ?_, ?_, ?_⟩
  · rw [up1_nc _ _ _ (by omega)]; exact iB
  · rw [up1_nc _ _ _ (by omega)]; exact iN
  · intro q hq; rw [up1_nc _ _ _ (by omega)]; exact iG q hq
  · intro q hq; rw [up1_nc _ _ _ (by omega)]; exact iK q hq
  · intro q hq; rw [up1_nc _ _ _ (by omega)]; exact iR q hq
  · intro q hq; rw [up1_nc _ _ _ (by omega), rw1_ne _ _ (by omega)]; exact cH q hq
  · intro q hq; rw [up1_nc _ _ _ (by omega), rw1_ne _ _ (by omega)]; exact cF q hq
  · intro q hq; rw [up1_nc _ _ _ (by omega), rw1_ne _ _ (by omega)]; exact cO q hq
  · intro q hq
    by_cases z : q = p
    · subst z; rw [up1_eq, rw1_eq]
    · rw [up1_nj _ _ z, rw1_ne _ _ (by omega)]; exact cA q hq
  · intro q hq; rw [up1_nc _ _ _ (by omega), rw1_ne _ _ (by omega)]; exact cC q hq
  · intro q hq; rw [up1_nc _ _ _ (by omega), rw1_ne _ _ (by omega)]; exact cW q hq
  · intro q hq; rw [up1_nc _ _ _ (by omega), rw1_ne _ _ (by omega)]; exact cT q hq
  · rw [up1_nc _ _ _ (by omega), rw1_ne _ _ (by omega)]; exact cG
  · rw [up1_nc _ _ _ (by omega), rw1_ne _ _ (by omega)]; exact cM
  · rw [up1_nc _ _ _ (by omega)]; exact cL
theorem XC.wC {I : Nat → Nat → Int32} {a σ : Nat} {E : gdE} {al : Int32} {r : gdR} (hx : XC I a σ E al r) (hA2 : a + 16 ≤ 1212) (hS1 : 1223 < σ) {p : Nat} (hp : p < 7) (v : Int32) : XC (up1 I (a + 6) p v) a σ E al (rw1 r (28 + p) v) := by
  obtain ⟨⟨hB, hN⟩, ⟨iB, iN⟩, iG, iK, iR, cH, cF, cO, cA, cC, cW, cT, cG, cM, cL⟩ := id hx
  refine ⟨⟨hB, hN⟩, ⟨?_, ?_⟩, ?_, ?_, ?_, ?_, ?_, ?_, ?_, ?_, ?_, ?_, ?_, ?_, ?_⟩
  · rw [up1_nc _ _ _ (by omega)]; exact iB
  · rw [up1_nc _ _ _ (by omega)]; exact iN
  · intro q hq; rw [up1_nc _ _ _ (by omega)]; exact iG q hq
  · intro q hq; rw [up1_nc _ _ _ (by omega)]; exact iK q hq
  · intro q hq; rw [up1_nc _ _ _ (by omega)]; exact iR q hq
  · intro q hq; rw [up1_nc _ _ _ (by omega), rw1_ne _ _ (by omega)]; exact cH q hq
  · intro q hq; rw [up1_nc _ _ _ (by omega), rw1_ne _ _ (by omega)]; exact cF q hq
  · intro q hq; rw [up1_nc _ _ _ (by omega), rw1_ne _ _ (by omega)]; exact cO q hq
  · intro q hq; rw [up1_nc _ _ _ (by omega), rw1_ne _ _ (by omega)]; exact cA q hq
  · intro q hq
    by_cases z : q = p
    · subst z; rw [up1_eq, rw1_eq]
    · rw [up1_nj _ _ z, rw1_ne _ _ (by omega)]; exact cC q hq
  · intro q hq; rw [up1_nc _ _ _ (by omega), rw1_ne _ _ (by omega)]; exact cW q hq
  · intro q hq; rw [up1_nc _ _ _ (by omega), rw1_ne _ _ (by omega)]; exact cT q hq
  · rw [up1_nc _ _ _ (by omega), rw1_ne _ _ (by omega)]; exact cG
  · rw [up1_nc _ _ _ (by omega), rw1_ne _ _ (by omega)]; exact cM
  · rw [up1_nc _ _ _ (by omega)]; exact cL
theorem XC.wT {I : Nat → Nat → Int32} {a σ : Nat} {E : gdE} {al : Int32} {r : gdR} (hx : XC I a σ E al r) (hA2 : a + 16 ≤ 1212) (hS1 : 1223 < σ) {p : Nat} (hp : p < 6) (v : Int32) : XC (up1 I (a + 1) p v) a σ E al (rw1 r (42 + p) v) := by
  obtain ⟨⟨hB, hN⟩, ⟨iB, iN⟩, iG, iK, iR, cH, cF, cO, cA, cC, cW, cT, cG, cM, cL⟩ := id hx
  refine ⟨⟨hB, hN⟩, ⟨?_, ?_⟩, ?_, ?_, ?_, ?_, ?_, ?_, ?_, ?_, ?_, ?_, ?_, ?_, ?_⟩
  · rw [up1_nc _ _ _ (by omega)]; exact iB
  · rw [up1_nc _ _ _ (by omega)]; exact iN
  · intro q hq; rw [up1_nc _ _ _ (by omega)]; exact iG q hq
  · intro q hq; rw [up1_nc _ _ _ (by omega)]; exact iK q hq
  · intro q hq; rw [up1_nc _ _ _ (by omega)]; exact iR q hq
  · intro q hq; rw [up1_nc _ _ _ (by omega), rw1_ne _ _ (by omega)]; exact cH q hq
  · intro q hq; rw [up1_nc _ _ _ (by omega), rw1_ne _ _ (by omega)]; exact cF q hq
  · intro q hq; rw [up1_nc _ _ _ (by omega), rw1_ne _ _ (by omega)]; exact cO q hq
  · intro q hq; rw [up1_nc _ _ _ (by omega), rw1_ne _ _ (by omega)]; exact cA q hq
  · intro q hq; rw [up1_nc _ _ _ (by omega), rw1_ne _ _ (by omega)]; exact cC q hq
  · intro q hq; rw [up1_nc _ _ _ (by omega), rw1_ne _ _ (by omega)]; exact cW q hq
  · intro q hq
    by_cases z : q = p
    · subst z; rw [up1_eq, rw1_eq]
    · rw [up1_nj _ _ z, rw1_ne _ _ (by omega)]; exact cT q hq
  · rw [up1_nc _ _ _ (by omega), rw1_ne _ _ (by omega)]; exact cG
  · rw [up1_nc _ _ _ (by omega), rw1_ne _ _ (by omega)]; exact cM
  · rw [up1_nc _ _ _ (by omega)]; exact cL
theorem XC.wG {I : Nat → Nat → Int32} {a σ : Nat} {E : gdE} {al : Int32} {r : gdR} (hx : XC I a σ E al r) (hA2 : a + 16 ≤ 1212) (hS1 : 1223 < σ) (v : Int32) : XC (up1 I a 11 v) a σ E al (rw1 r 48 v) := by
  obtain ⟨⟨hB, hN⟩, ⟨iB, iN⟩, iG, iK, iR, cH, cF, cO, cA, cC, cW, cT, cG, cM, cL⟩ := id hx
  refine ⟨⟨hB, hN⟩, ⟨?_, ?_⟩, ?_, ?_, ?_, ?_, ?_, ?_, ?_, ?_, ?_, ?_, ?_, ?_, ?_⟩
  · rw [up1_nc _ _ _ (by omega)]; exact iB
  · rw [up1_nc _ _ _ (by omega)]; exact iN
  · intro q hq; rw [up1_nc _ _ _ (by omega)]; exact iG q hq
  · intro q hq; rw [up1_nc _ _ _ (by omega)]; exact iK q hq
  · intro q hq; rw [up1_nc _ _ _ (by omega)]; exact iR q hq
  · intro q hq; rw [up1_nc _ _ _ (by omega), rw1_ne _ _ (by omega)]; exact cH q hq
  · intro q hq; rw [up1_nc _ _ _ (by omega), rw1_ne _ _ (by omega)]; exact cF q hq
  · intro q hq; rw [up1_nc _ _ _ (by omega), rw1_ne _ _ (by omega)]; exact cO q hq
  · intro q hq; rw [up1_nc _ _ _ (by omega), rw1_ne _ _ (by omega)]; exact cA q hq
  · intro q hq; rw [up1_nc _ _ _ (by omega), rw1_ne _ _ (by omega)]; exact cC q hq
  · intro q hq; rw [up1_nj _ _ (by omega), rw1_ne _ _ (by omega)]; exact cW q hq
  · intro q hq; rw [up1_nc _ _ _ (by omega), rw1_ne _ _ (by omega)]; exact cT q hq
  · rw [up1_eq, rw1_eq]
  · rw [up1_nj _ _ (by omega), rw1_ne _ _ (by omega)]; exact cM
  · rw [up1_nj _ _ (by omega)]; exact cL
theorem XC.wM {I : Nat → Nat → Int32} {a σ : Nat} {E : gdE} {al : Int32} {r : gdR} (hx : XC I a σ E al r) (hA2 : a + 16 ≤ 1212) (hS1 : 1223 < σ) (v : Int32) : XC (up1 I a 10 v) a σ E al (rw1 r 49 v) := by
  obtain ⟨⟨hB, hN⟩, ⟨iB, iN⟩, iG, iK, iR, cH, cF, cO, cA, cC, cW, cT, cG, cM, cL⟩ := id hx
  refine ⟨⟨hB, hN⟩, ⟨?_, ?_⟩, ?_, ?_, ?_, ?_, ?_, ?_, ?_, ?_, ?_, ?_, ?_, ?_, ?_⟩
  · rw [up1_nc _ _ _ (by omega)]; exact iB
  · rw [up1_nc _ _ _ (by omega)]; exact iN
  · intro q hq; rw [up1_nc _ _ _ (by omega)]; exact iG q hq
  · intro q hq; rw [up1_nc _ _ _ (by omega)]; exact iK q hq
  · intro q hq; rw [up1_nc _ _ _ (by omega)]; exact iR q hq
  · intro q hq; rw [up1_nc _ _ _ (by omega), rw1_ne _ _ (by omega)]; exact cH q hq
  · intro q hq; rw [up1_nc _ _ _ (by omega), rw1_ne _ _ (by omega)]; exact cF q hq
  · intro q hq; rw [up1_nc _ _ _ (by omega), rw1_ne _ _ (by omega)]; exact cO q hq
  · intro q hq; rw [up1_nc _ _ _ (by omega), rw1_ne _ _ (by omega)]; exact cA q hq
  · intro q hq; rw [up1_nc _ _ _ (by omega), rw1_ne _ _ (by omega)]; exact cC q hq
  · intro q hq; rw [up1_nj _ _ (by omega), rw1_ne _ _ (by omega)]; exact cW q hq
  · intro q hq; rw [up1_nc _ _ _ (by omega), rw1_ne _ _ (by omega)]; exact cT q hq
  · rw [up1_nj _ _ (by omega), rw1_ne _ _ (by omega)]; exact cG
  · rw [up1_eq, rw1_eq]
  · rw [up1_nj _ _ (by omega)]; exact cL
theorem i10 : ((1 : Int32) = 0) = False := eq_false (by decide)
theorem i01 : ((0 : Int32) = 1) = False := eq_false (by decide)
theorem rw1_id {r : gdR} {k : Nat} {v : Int32} (h : r k = v) : rw1 r k v = r := by
  funext j
  by_cases z : j = k
  · rw [z, rw1_eq, h]
  · rw [rw1_ne r v z]
theorem sp164 {d : Nat} {h : gd_H} {a σ : Nat} {E : gdE} {al : Int32} {r : gdR} (hd : 1 ≤ d) (hs : SS h a σ) (hx : XC (gI h) a σ E al r) (p : Nat) (hp : p < 7) (v : Int32) : ∃ I' : Nat → Nat → Int32, run gd_P0 d 164 [.ref a, .int (Int32.ofNat p), .int v] h = some (.inl (some (.int (if r (7 + p) = v then 0 else 1))), wI h I') ∧ XC I' a σ E al (rw1 r (7 + p) v) ∧ ∀ b, (b < a ∨ a + 8 < b) → I' b = gI h b := by
  obtain ⟨d, rfl⟩ : ∃ e, d = e + 1 := ⟨d - 1, by omega⟩
  obtain ⟨⟨hA1, hA2, hS1⟩, ⟨tA, rA8, tLw, rA9⟩, ⟨rA0, tA1, lA1⟩, ⟨rA1, tA2, lA2⟩, ⟨rA2, tA3, lA3⟩, ⟨rA3, tA4, lA4⟩, ⟨rA4, tA5, lA5⟩, ⟨rA5, tA6, lA6⟩, ⟨rA6, tA7, lA7⟩, ⟨rA7, tA8⟩, tS, ⟨rS0, tS1, lS1⟩, ⟨rS1, tS2, lS2⟩, ⟨rS2, tS3, lS3⟩, ⟨rS3, tS4, lS4⟩, ⟨rS4, tS5, lS5⟩, ⟨rS5, tS6, lS6⟩⟩ := id hs
  obtain ⟨⟨hB, hN⟩, ⟨iB, iN⟩, iG, iK, iR, cH, cF, cO, cA, cC, cW, cT, cG, cM, cL⟩ := id hx
  rw [r164, s164_0]
  by_cases c : r (7 + p) = v
  · refine ⟨gI h, ?_, ?_, fun b _ => rfl⟩
    · simp (disch := first | omega | assumption) only [tA, rA8, tLw, rA9, rA0, tA1, lA1, rA1, tA2, lA2, rA2, tA3, lA3, rA3, tA4, lA4, rA4, tA5, lA5, rA5, tA6, lA6, rA6, tA7, lA7, rA7, tA8, tS, rS0, tS1, lS1, rS1, tS2, lS2, rS2, tS3, lS3, rS3, tS4, lS4, rS4, tS5, lS5, rS5, tS6, lS6, iB, iN, iG, iK, iR, cH, cF, cO, cA, cC, cT, cG, cM, cL, c, gT_wI, gR_wI, gL_wI, gS_wI, gU_wI, gI_wI, gJ_wI, gI_wJ, gJ_wJ, gR_wJ, gT_wJ, gL_wJ, gS_wJ, gU_wJ, gI_wR, gJ_wR, gR_wR, gT_wR, gL_wR, gS_wR, gU_wR, wI_wI, wJ_wJ, wR_wR, j_s, j_add, j_addL, j_addR, j_mulL, j_mulR, j_cl, j_clL, j_neg, j_negL, j_nn, j_lt, j_le, j_eq, j_ltL, j_ltR, j_leL, j_leR, j_eqL, j_eqR, j_m1, j_m1L, j_m1R, j_eqLL, j_ltLL, j_leLL, n_le0, n_le1, n_lt0, n_lt1, gc_v, gc_n, ↓reduceIte, and_true, true_and, and_self, or_self, or_false, false_or, not_false_eq_true, not_true_eq_false, false_and, and_false, Nat.reduceAdd, Nat.reduceEqDiff, Nat.reduceLeDiff, Nat.reduceLT]
      rfl
    · rw [rw1_id c]; exact hx
  · refine ⟨up1 (gI h) (a + 3) p v, ?_, hx.wF hA2 hS1 hp v, fun b hb => up1_nc _ _ _ (by omega)⟩
    simp (disch := first | omega | assumption) only [tA, rA8, tLw, rA9, rA0, tA1, lA1, rA1, tA2, lA2, rA2, tA3, lA3, rA3, tA4, lA4, rA4, tA5, lA5, rA5, tA6, lA6, rA6, tA7, lA7, rA7, tA8, tS, rS0, tS1, lS1, rS1, tS2, lS2, rS2, tS3, lS3, rS3, tS4, lS4, rS4, tS5, lS5, rS5, tS6, lS6, iB, iN, iG, iK, iR, cH, cF, cO, cA, cC, cT, cG, cM, cL, c, gT_wI, gR_wI, gL_wI, gS_wI, gU_wI, gI_wI, gJ_wI, gI_wJ, gJ_wJ, gR_wJ, gT_wJ, gL_wJ, gS_wJ, gU_wJ, gI_wR, gJ_wR, gR_wR, gT_wR, gL_wR, gS_wR, gU_wR, wI_wI, wJ_wJ, wR_wR, j_s, j_add, j_addL, j_addR, j_mulL, j_mulR, j_cl, j_clL, j_neg, j_negL, j_nn, j_lt, j_le, j_eq, j_ltL, j_ltR, j_leL, j_leR, j_eqL, j_eqR, j_m1, j_m1L, j_m1R, j_eqLL, j_ltLL, j_leLL, n_le0, n_le1, n_lt0, n_lt1, gc_v, gc_n, ↓reduceIte, and_true, true_and, and_self, or_self, or_false, false_or, not_false_eq_true, not_true_eq_false, false_and, and_false, Nat.reduceAdd, Nat.reduceEqDiff, Nat.reduceLeDiff, Nat.reduceLT]
theorem sp165 {d : Nat} {h : gd_H} {a σ : Nat} {E : gdE} {al : Int32} {r : gdR} (hd : 1 ≤ d) (hs : SS h a σ) (hx : XC (gI h) a σ E al r) (v : Int32) : ∃ I' : Nat → Nat → Int32, run gd_P0 d 165 [.ref a, .int v] h = some (.inl (some (.int (if r 48 = v then 0 else 1))), wI h I') ∧ XC I' a σ E al (rw1 r 48 v) ∧ ∀ b, (b < a ∨ a + 8 < b) → I' b = gI h b := by
  obtain ⟨d, rfl⟩ : ∃ e, d = e + 1 := ⟨d - 1, by omega⟩
  obtain ⟨⟨hA1, hA2, hS1⟩, ⟨tA, rA8, tLw, rA9⟩, ⟨rA0, tA1, lA1⟩, ⟨rA1, tA2, lA2⟩, ⟨rA2, tA3, lA3⟩, ⟨rA3, tA4, lA4⟩, ⟨rA4, tA5, lA5⟩, ⟨rA5, tA6, lA6⟩, ⟨rA6, tA7, lA7⟩, ⟨rA7, tA8⟩, tS, ⟨rS0, tS1, lS1⟩, ⟨rS1, tS2, lS2⟩, ⟨rS2, tS3, lS3⟩, ⟨rS3, tS4, lS4⟩, ⟨rS4, tS5, lS5⟩, ⟨rS5, tS6, lS6⟩⟩ := id hs
  obtain ⟨⟨hB, hN⟩, ⟨iB, iN⟩, iG, iK, iR, cH, cF, cO, cA, cC, cW, cT, cG, cM, cL⟩ := id hx
  rw [r165, s165_0]
  by_cases c : r 48 = v
  · refine ⟨gI h, ?_, ?_, fun b _ => rfl⟩
    · simp (disch := first | omega | assumption) only [tA, rA8, tLw, rA9, rA0, tA1, lA1, rA1, tA2, lA2, rA2, tA3, lA3, rA3, tA4, lA4, rA4, tA5, lA5, rA5, tA6, lA6, rA6, tA7, lA7, rA7, tA8, tS, rS0, tS1, lS1, rS1, tS2, lS2, rS2, tS3, lS3, rS3, tS4, lS4, rS4, tS5, lS5, rS5, tS6, lS6, iB, iN, iG, iK, iR, cH, cF, cO, cA, cC, cT, cG, cM, cL, c, gT_wI, gR_wI, gL_wI, gS_wI, gU_wI, gI_wI, gJ_wI, gI_wJ, gJ_wJ, gR_wJ, gT_wJ, gL_wJ, gS_wJ, gU_wJ, gI_wR, gJ_wR, gR_wR, gT_wR, gL_wR, gS_wR, gU_wR, wI_wI, wJ_wJ, wR_wR, j_s, j_add, j_addL, j_addR, j_mulL, j_mulR, j_cl, j_clL, j_neg, j_negL, j_nn, j_lt, j_le, j_eq, j_ltL, j_ltR, j_leL, j_leR, j_eqL, j_eqR, j_m1, j_m1L, j_m1R, j_eqLL, j_ltLL, j_leLL, n_le0, n_le1, n_lt0, n_lt1, gc_v, gc_n, ↓reduceIte, and_true, true_and, and_self, or_self, or_false, false_or, not_false_eq_true, not_true_eq_false, false_and, and_false, Nat.reduceAdd, Nat.reduceEqDiff, Nat.reduceLeDiff, Nat.reduceLT]
      rfl
    · rw [rw1_id c]; exact hx
  · refine ⟨up1 (gI h) a 11 v, ?_, hx.wG hA2 hS1 v, fun b hb => up1_nc _ _ _ (by omega)⟩
    simp (disch := first | omega | assumption) only [tA, rA8, tLw, rA9, rA0, tA1, lA1, rA1, tA2, lA2, rA2, tA3, lA3, rA3, tA4, lA4, rA4, tA5, lA5, rA5, tA6, lA6, rA6, tA7, lA7, rA7, tA8, tS, rS0, tS1, lS1, rS1, tS2, lS2, rS2, tS3, lS3, rS3, tS4, lS4, rS4, tS5, lS5, rS5, tS6, lS6, iB, iN, iG, iK, iR, cH, cF, cO, cA, cC, cT, cG, cM, cL, c, gT_wI, gR_wI, gL_wI, gS_wI, gU_wI, gI_wI, gJ_wI, gI_wJ, gJ_wJ, gR_wJ, gT_wJ, gL_wJ, gS_wJ, gU_wJ, gI_wR, gJ_wR, gR_wR, gT_wR, gL_wR, gS_wR, gU_wR, wI_wI, wJ_wJ, wR_wR, j_s, j_add, j_addL, j_addR, j_mulL, j_mulR, j_cl, j_clL, j_neg, j_negL, j_nn, j_lt, j_le, j_eq, j_ltL, j_ltR, j_leL, j_leR, j_eqL, j_eqR, j_m1, j_m1L, j_m1R, j_eqLL, j_ltLL, j_leLL, n_le0, n_le1, n_lt0, n_lt1, gc_v, gc_n, ↓reduceIte, and_true, true_and, and_self, or_self, or_false, false_or, not_false_eq_true, not_true_eq_false, false_and, and_false, Nat.reduceAdd, Nat.reduceEqDiff, Nat.reduceLeDiff, Nat.reduceLT]
theorem sp163 {d : Nat} {h : gd_H} {a σ : Nat} {E : gdE} {al : Int32} {r : gdR} (hd : 2 ≤ d) (hs : SS h a σ) (hx : XC (gI h) a σ E al r) (p : Nat) (hp : p < eN E) (v : Int32) (hv : v = 0 ∨ v = 1) : ∃ I' : Nat → Nat → Int32, run gd_P0 d 163 [.ref a, .int (Int32.ofNat p), .int v] h = some (.inl (some (.int (if r (35 + p) = v then 0 else 1))), wI h I') ∧ XC I' a σ E al (rw1 r (35 + p) v) ∧ ∀ b, (b < a ∨ a + 8 < b) → I' b = gI h b := by
  obtain ⟨d, rfl⟩ : ∃ e, d = e + 1 := ⟨d - 1, by omega⟩
  obtain ⟨⟨hA1, hA2, hS1⟩, ⟨tA, rA8, tLw, rA9⟩, ⟨rA0, tA1, lA1⟩, ⟨rA1, tA2, lA2⟩, ⟨rA2, tA3, lA3⟩, ⟨rA3, tA4, lA4⟩, ⟨rA4, tA5, lA5⟩, ⟨rA5, tA6, lA6⟩, ⟨rA6, tA7, lA7⟩, ⟨rA7, tA8⟩, tS, ⟨rS0, tS1, lS1⟩, ⟨rS1, tS2, lS2⟩, ⟨rS2, tS3, lS3⟩, ⟨rS3, tS4, lS4⟩, ⟨rS4, tS5, lS5⟩, ⟨rS5, tS6, lS6⟩⟩ := id hs
  obtain ⟨⟨hB, hN⟩, ⟨iB, iN⟩, iG, iK, iR, cH, cF, cO, cA, cC, cW, cT, cG, cM, cL⟩ := id hx
  rw [r163, s163_0]
  by_cases c : r (35 + p) = v
  · refine ⟨gI h, ?_, ?_, fun b _ => rfl⟩
    · simp (disch := first | omega | assumption) only [tA, rA8, tLw, rA9, rA0, tA1, lA1, rA1, tA2, lA2, rA2, tA3, lA3, rA3, tA4, lA4, rA4, tA5, lA5, rA5, tA6, lA6, rA6, tA7, lA7, rA7, tA8, tS, rS0, tS1, lS1, rS1, tS2, lS2, rS2, tS3, lS3, rS3, tS4, lS4, rS4, tS5, lS5, rS5, tS6, lS6, iB, iN, iG, iK, iR, cH, cF, cO, cA, cC, cT, cG, cM, cL, c, sp161 (d := d) (by omega) hs hx, s163_5, gT_wI, gR_wI, gL_wI, gS_wI, gU_wI, gI_wI, gJ_wI, gI_wJ, gJ_wJ, gR_wJ, gT_wJ, gL_wJ, gS_wJ, gU_wJ, gI_wR, gJ_wR, gR_wR, gT_wR, gL_wR, gS_wR, gU_wR, wI_wI, wJ_wJ, wR_wR, j_s, j_add, j_addL, j_addR, j_mulL, j_mulR, j_cl, j_clL, j_neg, j_negL, j_nn, j_lt, j_le, j_eq, j_ltL, j_ltR, j_leL, j_leR, j_eqL, j_eqR, j_m1, j_m1L, j_m1R, j_eqLL, j_ltLL, j_leLL, n_le0, n_le1, n_lt0, n_lt1, gc_v, gc_n, ↓reduceIte, and_true, true_and, and_self, or_self, or_false, false_or, not_false_eq_true, not_true_eq_false, false_and, and_false, Nat.reduceAdd, Nat.reduceEqDiff, Nat.reduceLeDiff, Nat.reduceLT]
      rfl
    · rw [rw1_id c]; exact hx
  · refine ⟨up1 (gI h) a 12 (gI h a 12 ^^^ ((1 : Int32) <<< (Int32.ofNat p &&& 31))), ?_, ?_, fun b hb => up1_nc _ _ _ (by omega)⟩
    · simp (disch := first | omega | assumption) only [tA, rA8, tLw, rA9, rA0, tA1, lA1, rA1, tA2, lA2, rA2, tA3, lA3, rA3, tA4, lA4, rA4, tA5, lA5, rA5, tA6, lA6, rA6, tA7, lA7, rA7, tA8, tS, rS0, tS1, lS1, rS1, tS2, lS2, rS2, tS3, lS3, rS3, tS4, lS4, rS4, tS5, lS5, rS5, tS6, lS6, iB, iN, iG, iK, iR, cH, cF, cO, cA, cC, cT, cG, cM, cL, c, sp161 (d := d) (by omega) hs hx, s163_5, gT_wI, gR_wI, gL_wI, gS_wI, gU_wI, gI_wI, gJ_wI, gI_wJ, gJ_wJ, gR_wJ, gT_wJ, gL_wJ, gS_wJ, gU_wJ, gI_wR, gJ_wR, gR_wR, gT_wR, gL_wR, gS_wR, gU_wR, wI_wI, wJ_wJ, wR_wR, j_s, j_add, j_addL, j_addR, j_mulL, j_mulR, j_cl, j_clL, j_neg, j_negL, j_nn, j_lt, j_le, j_eq, j_ltL, j_ltR, j_leL, j_leR, j_eqL, j_eqR, j_m1, j_m1L, j_m1R, j_eqLL, j_ltLL, j_leLL, n_le0, n_le1, n_lt0, n_lt1, gc_v, gc_n, ↓reduceIte, and_true, true_and, and_self, or_self, or_false, false_or, not_false_eq_true, not_true_eq_false, false_and, and_false, Nat.reduceAdd, Nat.reduceEqDiff, Nat.reduceLeDiff, Nat.reduceLT]
    · refine ⟨⟨hB, hN⟩, ⟨?_, ?_⟩, ?_, ?_, ?_, ?_, ?_, ?_, ?_, ?_, ?_, ?_, ?_, ?_, ?_⟩
      · rw [up1_nc _ _ _ (by omega)]; exact iB
      · rw [up1_nc _ _ _ (by omega)]; exact iN
      · intro q hq; rw [up1_nc _ _ _ (by omega)]; exact iG q hq
      · intro q hq; rw [up1_nc _ _ _ (by omega)]; exact iK q hq
      · intro q hq; rw [up1_nc _ _ _ (by omega)]; exact iR q hq
      · intro q hq; rw [up1_nc _ _ _ (by omega), rw1_ne _ _ (by omega)]; exact cH q hq
      · intro q hq; rw [up1_nc _ _ _ (by omega), rw1_ne _ _ (by omega)]; exact cF q hq
      · intro q hq; rw [up1_nc _ _ _ (by omega), rw1_ne _ _ (by omega)]; exact cO q hq
      · intro q hq; rw [up1_nc _ _ _ (by omega), rw1_ne _ _ (by omega)]; exact cA q hq
      · intro q hq; rw [up1_nc _ _ _ (by omega), rw1_ne _ _ (by omega)]; exact cC q hq
      · intro q hq
        have e := cW q hq
        rw [up1_eq, b_flip (by omega) (by omega)]
        by_cases z : q = p
        · subst z
          rw [rw1_eq, if_pos rfl]
          rw [e] at c
          cases hb : bt (gI h a 12) q with
          | true => rw [hb] at c; rcases hv with rfl | rfl <;> simp at c ⊢
          | false => rw [hb] at c; rcases hv with rfl | rfl <;> simp at c ⊢
        · rw [rw1_ne _ _ (by omega), if_neg z]; exact e
      · intro q hq; rw [up1_nc _ _ _ (by omega), rw1_ne _ _ (by omega)]; exact cT q hq
      · rw [up1_nj _ _ (by omega), rw1_ne _ _ (by omega)]; exact cG
      · rw [up1_nj _ _ (by omega), rw1_ne _ _ (by omega)]; exact cM
      · rw [up1_nj _ _ (by omega)]; exact cL
theorem sp160 {d : Nat} {h : gd_H} {a σ : Nat} {E : gdE} {al : Int32} {r : gdR} (hd : 3 ≤ d) (hs : SS h a σ) (hx : XC (gI h) a σ E al r) {m : Nat} (hr : RI E m r) (p : Nat) (hp : p < eN E) : ∃ I' : Nat → Nat → Int32, run gd_P0 d 160 [.ref a, .int (Int32.ofNat p)] h = some (.inl (some (.int (if pNoB E r p = true then 1 else 0))), wI h I') ∧ XC I' a σ E al (if pNoB E r p = true then pNo E r p else r) ∧ ∀ b, (b < a ∨ a + 8 < b) → I' b = gI h b := by
  obtain ⟨d, rfl⟩ : ∃ e, d = e + 1 := ⟨d - 1, by omega⟩
  obtain ⟨⟨hA1, hA2, hS1⟩, ⟨tA, rA8, tLw, rA9⟩, ⟨rA0, tA1, lA1⟩, ⟨rA1, tA2, lA2⟩, ⟨rA2, tA3, lA3⟩, ⟨rA3, tA4, lA4⟩, ⟨rA4, tA5, lA5⟩, ⟨rA5, tA6, lA6⟩, ⟨rA6, tA7, lA7⟩, ⟨rA7, tA8⟩, tS, ⟨rS0, tS1, lS1⟩, ⟨rS1, tS2, lS2⟩, ⟨rS2, tS3, lS3⟩, ⟨rS3, tS4, lS4⟩, ⟨rS4, tS5, lS5⟩, ⟨rS5, tS6, lS6⟩⟩ := id hs
  obtain ⟨⟨hB, hN⟩, ⟨iB, iN⟩, iG, iK, iR, cH, cF, cO, cA, cC, cW, cT, cG, cM, cL⟩ := id hx
  obtain ⟨-, -, hmm, -, hh1, ht, -, hw, -⟩ := id hr
  have hdoor := pLi_door (E := E) hB ht (hh1 p hp)
  rw [r160, s160_0]
  by_cases c0 : r (35 + p) = 1
  · by_cases c1 : pLi E r (r p) = -1
    · have c2 : ¬ r p ≤ pb r (eB E) := Int32.not_le.mpr (hdoor.mp c1)
      have c3 : pNoB E r p = false := decide_eq_false (fun z => z.2 c1)
      refine ⟨gI h, ?_, ?_, fun b _ => rfl⟩
      · simp (disch := first | omega | assumption) only [tA, rA8, tLw, rA9, rA0, tA1, lA1, rA1, tA2, lA2, rA2, tA3, lA3, rA3, tA4, lA4, rA4, tA5, lA5, rA5, tA6, lA6, rA6, tA7, lA7, rA7, tA8, tS, rS0, tS1, lS1, rS1, tS2, lS2, rS2, tS3, lS3, rS3, tS4, lS4, rS4, tS5, lS5, rS5, tS6, lS6, iB, iN, iG, iK, iR, cH, cF, cO, cA, cC, cT, cG, cM, cL, c0, c2, c3, i10, sp161 (d := d) (by omega) hs hx, sp158 (d := d) (by omega) hs hx, s160_5, s160_18, s160_21, Bool.false_eq_true, gT_wI, gR_wI, gL_wI, gS_wI, gU_wI, gI_wI, gJ_wI, gI_wJ, gJ_wJ, gR_wJ, gT_wJ, gL_wJ, gS_wJ, gU_wJ, gI_wR, gJ_wR, gR_wR, gT_wR, gL_wR, gS_wR, gU_wR, wI_wI, wJ_wJ, wR_wR, j_s, j_add, j_addL, j_addR, j_mulL, j_mulR, j_cl, j_clL, j_neg, j_negL, j_nn, j_lt, j_le, j_eq, j_ltL, j_ltR, j_leL, j_leR, j_eqL, j_eqR, j_m1, j_m1L, j_m1R, j_eqLL, j_ltLL, j_leLL, n_le0, n_le1, n_lt0, n_lt1, gc_v, gc_n, ↓reduceIte, and_true, true_and, and_self, or_self, or_false, false_or, not_false_eq_true, not_true_eq_false, false_and, and_false, Nat.reduceAdd, Nat.reduceEqDiff, Nat.reduceLeDiff, Nat.reduceLT]
        rfl
      · rw [c3]; exact hx
    · have c2 : r p ≤ pb r (eB E) := Int32.not_lt.mp (fun z => c1 (hdoor.mpr z))
      have c3 : pNoB E r p = true := decide_eq_true ⟨c0, c1⟩
      obtain ⟨k, hk, e⟩ : ∃ k, k < eB E ∧ pLi E r (r p) = Int32.ofNat k := by
        rcases pLi_or E r (r p) with ⟨z, -⟩ | ⟨k, z1, z2, -⟩
        · exact absurd z c1
        · exact ⟨k, z1, z2⟩
      have hx2 := hx.wO hA2 hS1 (p := p) (by omega) (Int32.ofNat k)
      refine ⟨up1 (up1 (up1 (gI h) (a + 4) p (Int32.ofNat k)) (a + 5) p (r p - pb r k)) (a + 6) p (r 49), ?_, ?_, fun b hb => by rw [up1_nc _ _ _ (by omega), up1_nc _ _ _ (by omega), up1_nc _ _ _ (by omega)]⟩
      · simp (disch := first | omega | assumption) only [tA, rA8, tLw, rA9, rA0, tA1, lA1, rA1, tA2, lA2, rA2, tA3, lA3, rA3, tA4, lA4, rA4, tA5, lA5, rA5, tA6, lA6, rA6, tA7, lA7, rA7, tA8, tS, rS0, tS1, lS1, rS1, tS2, lS2, rS2, tS3, lS3, rS3, tS4, lS4, rS4, tS5, lS5, rS5, tS6, lS6, iB, iN, iG, iK, iR, cH, cF, cO, cA, cC, cT, cG, cM, cL, c0, c2, c3, i10, e, sp161 (d := d) (by omega) hs hx, sp158 (d := d) (by omega) hs hx, sp162 (d := d) (by omega) hs hx, s160_5, s160_18, s160_38, up1_ne, up1_eq, gT_wI, gR_wI, gL_wI, gS_wI, gU_wI, gI_wI, gJ_wI, gI_wJ, gJ_wJ, gR_wJ, gT_wJ, gL_wJ, gS_wJ, gU_wJ, gI_wR, gJ_wR, gR_wR, gT_wR, gL_wR, gS_wR, gU_wR, wI_wI, wJ_wJ, wR_wR, j_s, j_add, j_addL, j_addR, j_mulL, j_mulR, j_cl, j_clL, j_neg, j_negL, j_nn, j_lt, j_le, j_eq, j_ltL, j_ltR, j_leL, j_leR, j_eqL, j_eqR, j_m1, j_m1L, j_m1R, j_eqLL, j_ltLL, j_leLL, n_le0, n_le1, n_lt0, n_lt1, gc_v, gc_n, ↓reduceIte, and_true, true_and, and_self, or_self, or_false, false_or, not_false_eq_true, not_true_eq_false, false_and, and_false, Nat.reduceAdd, Nat.reduceEqDiff, Nat.reduceLeDiff, Nat.reduceLT]
        have e157 := sp157 (d := d) (by omega) (hs.wI _) (show XC (gI (wI h (up1 (gI h) (a + 4) p (Int32.ofNat k)))) a σ E al _ from hx2) k (by omega)
        rw [show pb (rw1 r (14 + p) (Int32.ofNat k)) k = pb r k from fo_congr (fun i hi x => by rw [rw1_ne _ _ (by omega)]) 0] at e157
        rw [e157]
        simp (disch := first | omega | assumption) only [tA, rA8, tLw, rA9, rA0, tA1, lA1, rA1, tA2, lA2, rA2, tA3, lA3, rA3, tA4, lA4, rA4, tA5, lA5, rA5, tA6, lA6, rA6, tA7, lA7, rA7, tA8, tS, rS0, tS1, lS1, rS1, tS2, lS2, rS2, tS3, lS3, rS3, tS4, lS4, rS4, tS5, lS5, rS5, tS6, lS6, iB, iN, iG, iK, iR, cH, cF, cO, cA, cC, cT, cG, cM, cL, up1_ne, s160_60, gT_wI, gR_wI, gL_wI, gS_wI, gU_wI, gI_wI, gJ_wI, gI_wJ, gJ_wJ, gR_wJ, gT_wJ, gL_wJ, gS_wJ, gU_wJ, gI_wR, gJ_wR, gR_wR, gT_wR, gL_wR, gS_wR, gU_wR, wI_wI, wJ_wJ, wR_wR, j_s, j_add, j_addL, j_addR, j_mulL, j_mulR, j_cl, j_clL, j_neg, j_negL, j_nn, j_lt, j_le, j_eq, j_ltL, j_ltR, j_leL, j_leR, j_eqL, j_eqR, j_m1, j_m1L, j_m1R, j_eqLL, j_ltLL, j_leLL, n_le0, n_le1, n_lt0, n_lt1, gc_v, gc_n, ↓reduceIte, and_true, true_and, and_self, or_self, or_false, false_or, not_false_eq_true, not_true_eq_false, false_and, and_false, Nat.reduceAdd, Nat.reduceEqDiff, Nat.reduceLeDiff, Nat.reduceLT]
      · rw [c3, if_pos rfl]
        have h3 := (hx2.wA hA2 hS1 (p := p) (by omega) (r p - pb r k)).wC hA2 hS1 (p := p) (by omega) (r 49)
        unfold pNo
        rw [e, j_cl (by omega)]
        exact h3
  · have c3 : pNoB E r p = false := decide_eq_false (fun z => c0 z.1)
    have c4 : r (35 + p) = 0 := (hw p (by omega)).resolve_right c0
    refine ⟨gI h, ?_, ?_, fun b _ => rfl⟩
    · simp (disch := first | omega | assumption) only [tA, rA8, tLw, rA9, rA0, tA1, lA1, rA1, tA2, lA2, rA2, tA3, lA3, rA3, tA4, lA4, rA4, tA5, lA5, rA5, tA6, lA6, rA6, tA7, lA7, rA7, tA8, tS, rS0, tS1, lS1, rS1, tS2, lS2, rS2, tS3, lS3, rS3, tS4, lS4, rS4, tS5, lS5, rS5, tS6, lS6, iB, iN, iG, iK, iR, cH, cF, cO, cA, cC, cT, cG, cM, cL, c4, c3, sp161 (d := d) (by omega) hs hx, s160_5, s160_21, Bool.false_eq_true, gT_wI, gR_wI, gL_wI, gS_wI, gU_wI, gI_wI, gJ_wI, gI_wJ, gJ_wJ, gR_wJ, gT_wJ, gL_wJ, gS_wJ, gU_wJ, gI_wR, gJ_wR, gR_wR, gT_wR, gL_wR, gS_wR, gU_wR, wI_wI, wJ_wJ, wR_wR, j_s, j_add, j_addL, j_addR, j_mulL, j_mulR, j_cl, j_clL, j_neg, j_negL, j_nn, j_lt, j_le, j_eq, j_ltL, j_ltR, j_leL, j_leR, j_eqL, j_eqR, j_m1, j_m1L, j_m1R, j_eqLL, j_ltLL, j_leLL, n_le0, n_le1, n_lt0, n_lt1, gc_v, gc_n, ↓reduceIte, and_true, true_and, and_self, or_self, or_false, false_or, not_false_eq_true, not_true_eq_false, false_and, and_false, Nat.reduceAdd, Nat.reduceEqDiff, Nat.reduceLeDiff, Nat.reduceLT]
      rfl
    · rw [c3]; exact hx
theorem sp166 {d : Nat} {h : gd_H} {a σ : Nat} {E : gdE} {al : Int32} {r : gdR} (hd : 1 ≤ d) (hs : SS h a σ) (hx : XC (gI h) a σ E al r) {m : Nat} (hr : RI E m r) (k : Nat) (hk : k < 6) (n : Nat) (hn : n < 1000) (hn1 : 1 ≤ n) : ∃ I' : Nat → Nat → Int32, run gd_P0 d 166 [.ref a, .int (Int32.ofNat k), .int (Int32.ofNat n)] h = some (.inl (some (.int (if Int32.ofNat n < r (42 + k) then 1 else 0))), wI h I') ∧ XC I' a σ E al (if Int32.ofNat n < r (42 + k) then pPl E r k (Int32.ofNat n) else r) ∧ ∀ b, (b < a ∨ a + 8 < b) → I' b = gI h b := by
  obtain ⟨d, rfl⟩ : ∃ e, d = e + 1 := ⟨d - 1, by omega⟩
  obtain ⟨⟨hA1, hA2, hS1⟩, ⟨tA, rA8, tLw, rA9⟩, ⟨rA0, tA1, lA1⟩, ⟨rA1, tA2, lA2⟩, ⟨rA2, tA3, lA3⟩, ⟨rA3, tA4, lA4⟩, ⟨rA4, tA5, lA5⟩, ⟨rA5, tA6, lA6⟩, ⟨rA6, tA7, lA7⟩, ⟨rA7, tA8⟩, tS, ⟨rS0, tS1, lS1⟩, ⟨rS1, tS2, lS2⟩, ⟨rS2, tS3, lS3⟩, ⟨rS3, tS4, lS4⟩, ⟨rS4, tS5, lS5⟩, ⟨rS5, tS6, lS6⟩⟩ := id hs
  obtain ⟨⟨hB, hN⟩, ⟨iB, iN⟩, iG, iK, iR, cH, cF, cO, cA, cC, cW, cT, cG, cM, cL⟩ := id hx
  obtain ⟨t, ht, et⟩ := hr.lt k hk
  rw [r166, s166_0]
  by_cases c : n < t
  · have c1 : (1 : Int32) ≤ Int32.ofNat t - Int32.ofNat n := by rw [j_sub (by omega), show (1 : Int32) = Int32.ofNat 1 from rfl, j_le (by omega) (by omega)]; omega
    have c2 : Int32.ofNat n < r (42 + k) := by rw [et, j_lt (by omega) (by omega)]; exact c
    rw [if_pos c2, if_pos c2]
    have L := lp_e (fun i I => go gd_P0 d 166 26 [.ref a, .int (Int32.ofNat k), .null, .int (Int32.ofNat i)] [] (wI h I)) (fun i I => XC I a σ E al (pPlI r k (Int32.ofNat n) i) ∧ ∀ b, (b < a ∨ a + 8 < b) → I b = gI h b) (eN E) (up1 (gI h) (a + 1) k (r (42 + k) - Int32.ofNat n)) ⟨?_, fun b hb => up1_nc _ _ _ (by omega)⟩ ?_
    · obtain ⟨I', e1, e2, e3⟩ := L
      refine ⟨I', ?_, e2, e3⟩
      simp (disch := first | omega | assumption) only [tA, rA8, tLw, rA9, rA0, tA1, lA1, rA1, tA2, lA2, rA2, tA3, lA3, rA3, tA4, lA4, rA4, tA5, lA5, rA5, tA6, lA6, rA6, tA7, lA7, rA7, tA8, tS, rS0, tS1, lS1, rS1, tS2, lS2, rS2, tS3, lS3, rS3, tS4, lS4, rS4, tS5, lS5, rS5, tS6, lS6, iB, iN, iG, iK, iR, cH, cF, cO, cA, cC, cT, cG, cM, cL, et, c1, gT_wI, gR_wI, gL_wI, gS_wI, gU_wI, gI_wI, gJ_wI, gI_wJ, gJ_wJ, gR_wJ, gT_wJ, gL_wJ, gS_wJ, gU_wJ, gI_wR, gJ_wR, gR_wR, gT_wR, gL_wR, gS_wR, gU_wR, wI_wI, wJ_wJ, wR_wR, j_s, j_add, j_addL, j_addR, j_mulL, j_mulR, j_cl, j_clL, j_neg, j_negL, j_nn, j_lt, j_le, j_eq, j_ltL, j_ltR, j_leL, j_leR, j_eqL, j_eqR, j_m1, j_m1L, j_m1R, j_eqLL, j_ltLL, j_leLL, n_le0, n_le1, n_lt0, n_lt1, gc_v, gc_n, ↓reduceIte, and_true, true_and, and_self, or_self, or_false, false_or, not_false_eq_true, not_true_eq_false, false_and, and_false, Nat.reduceAdd, Nat.reduceEqDiff, Nat.reduceLeDiff, Nat.reduceLT]
      refine Eq.trans ?_ (e1.trans ?_)
      · rw [et]
        exact (s166_26 ..).trans (s166_26 ..).symm
      · try dsimp only
        obtain ⟨⟨hB, hN⟩, ⟨iB, iN⟩, -⟩ := id e2
        rw [s166_26]
        simp (disch := first | omega | assumption) only [tA, rA8, tLw, rA9, rA0, tA1, lA1, rA1, tA2, lA2, rA2, tA3, lA3, rA3, tA4, lA4, rA4, tA5, lA5, rA5, tA6, lA6, rA6, tA7, lA7, rA7, tA8, tS, rS0, tS1, lS1, rS1, tS2, lS2, rS2, tS3, lS3, rS3, tS4, lS4, rS4, tS5, lS5, rS5, tS6, lS6, iB, iN, gT_wI, gR_wI, gL_wI, gS_wI, gU_wI, gI_wI, gJ_wI, gI_wJ, gJ_wJ, gR_wJ, gT_wJ, gL_wJ, gS_wJ, gU_wJ, gI_wR, gJ_wR, gR_wR, gT_wR, gL_wR, gS_wR, gU_wR, wI_wI, wJ_wJ, wR_wR, j_s, j_add, j_addL, j_addR, j_mulL, j_mulR, j_cl, j_clL, j_neg, j_negL, j_nn, j_lt, j_le, j_eq, j_ltL, j_ltR, j_leL, j_leR, j_eqL, j_eqR, j_m1, j_m1L, j_m1R, j_eqLL, j_ltLL, j_leLL, n_le0, n_le1, n_lt0, n_lt1, gc_v, gc_n, ↓reduceIte, and_true, true_and, and_self, or_self, or_false, false_or, not_false_eq_true, not_true_eq_false, false_and, and_false, Nat.reduceAdd, Nat.reduceEqDiff, Nat.reduceLeDiff, Nat.reduceLT]
    · rw [pPlI_0]
      exact hx.wT hA2 hS1 (p := k) hk (r (42 + k) - Int32.ofNat n)
    · intro i hi I hI
      try dsimp only
      obtain ⟨hx, hfr⟩ := hI
      obtain ⟨⟨hB, hN⟩, ⟨iB, iN⟩, iG, iK, iR, cH, cF, cO, cA, cC, cW, cT, cG, cM, cL⟩ := id hx
      have o1 : I (a + 4) i = r (14 + i) := (cO i (by omega)).trans (by unfold pPlI; rw [if_neg (by omega), if_neg (by omega)])
      have a1 : I (a + 5) i = r (21 + i) := (cA i (by omega)).trans (by unfold pPlI; rw [if_neg (by omega), if_neg (by omega)])
      have t1 : I (a + 1) k = r (42 + k) - Int32.ofNat n := (cT k hk).trans (by unfold pPlI; rw [if_pos rfl])
      rw [s166_26]
      by_cases c3 : r (14 + i) = Int32.ofNat k
      · refine ⟨up1 I (a + 5) i (jmin (r (21 + i)) (r (42 + k) - Int32.ofNat n)), ?_, ?_, fun b hb => by rw [up1_nc _ _ _ (by omega)]; exact hfr b hb⟩
        · simp (disch := first | omega | assumption) only [tA, rA8, tLw, rA9, rA0, tA1, lA1, rA1, tA2, lA2, rA2, tA3, lA3, rA3, tA4, lA4, rA4, tA5, lA5, rA5, tA6, lA6, rA6, tA7, lA7, rA7, tA8, tS, rS0, tS1, lS1, rS1, tS2, lS2, rS2, tS3, lS3, rS3, tS4, lS4, rS4, tS5, lS5, rS5, tS6, lS6, o1, a1, t1, c3, s166_67, s166_68, iB, iN, gT_wI, gR_wI, gL_wI, gS_wI, gU_wI, gI_wI, gJ_wI, gI_wJ, gJ_wJ, gR_wJ, gT_wJ, gL_wJ, gS_wJ, gU_wJ, gI_wR, gJ_wR, gR_wR, gT_wR, gL_wR, gS_wR, gU_wR, wI_wI, wJ_wJ, wR_wR, j_s, j_add, j_addL, j_addR, j_mulL, j_mulR, j_cl, j_clL, j_neg, j_negL, j_nn, j_lt, j_le, j_eq, j_ltL, j_ltR, j_leL, j_leR, j_eqL, j_eqR, j_m1, j_m1L, j_m1R, j_eqLL, j_ltLL, j_leLL, n_le0, n_le1, n_lt0, n_lt1, gc_v, gc_n, ↓reduceIte, and_true, true_and, and_self, or_self, or_false, false_or, not_false_eq_true, not_true_eq_false, false_and, and_false, Nat.reduceAdd, Nat.reduceEqDiff, Nat.reduceLeDiff, Nat.reduceLT]
          rfl
        · rw [pPlI_y _ (by omega) c3]
          exact hx.wA hA2 hS1 (p := i) (by omega) (jmin (r (21 + i)) (r (42 + k) - Int32.ofNat n))
      · refine ⟨I, ?_, ?_, hfr⟩
        · simp (disch := first | omega | assumption) only [tA, rA8, tLw, rA9, rA0, tA1, lA1, rA1, tA2, lA2, rA2, tA3, lA3, rA3, tA4, lA4, rA4, tA5, lA5, rA5, tA6, lA6, rA6, tA7, lA7, rA7, tA8, tS, rS0, tS1, lS1, rS1, tS2, lS2, rS2, tS3, lS3, rS3, tS4, lS4, rS4, tS5, lS5, rS5, tS6, lS6, o1, c3, s166_68, iB, iN, gT_wI, gR_wI, gL_wI, gS_wI, gU_wI, gI_wI, gJ_wI, gI_wJ, gJ_wJ, gR_wJ, gT_wJ, gL_wJ, gS_wJ, gU_wJ, gI_wR, gJ_wR, gR_wR, gT_wR, gL_wR, gS_wR, gU_wR, wI_wI, wJ_wJ, wR_wR, j_s, j_add, j_addL, j_addR, j_mulL, j_mulR, j_cl, j_clL, j_neg, j_negL, j_nn, j_lt, j_le, j_eq, j_ltL, j_ltR, j_leL, j_leR, j_eqL, j_eqR, j_m1, j_m1L, j_m1R, j_eqLL, j_ltLL, j_leLL, n_le0, n_le1, n_lt0, n_lt1, gc_v, gc_n, ↓reduceIte, and_true, true_and, and_self, or_self, or_false, false_or, not_false_eq_true, not_true_eq_false, false_and, and_false, Nat.reduceAdd, Nat.reduceEqDiff, Nat.reduceLeDiff, Nat.reduceLT]
        · rw [pPlI_n _ c3]
          exact hx
  · have c1 : ¬ (1 : Int32) ≤ Int32.ofNat t - Int32.ofNat n := fun z => by
      have h2 := (Int32.le_iff_toInt_le.mp z)
      rw [Int32.toInt_sub, j_ti (by omega), j_ti (by omega), Int.bmod_eq_of_le (by omega) (by omega), Int32.toInt_one] at h2
      omega
    have c2 : ¬ Int32.ofNat n < r (42 + k) := by rw [et, j_lt (by omega) (by omega)]; exact c
    rw [if_neg c2, if_neg c2]
    refine ⟨gI h, ?_, hx, fun b _ => rfl⟩
    simp (disch := first | omega | assumption) only [tA, rA8, tLw, rA9, rA0, tA1, lA1, rA1, tA2, lA2, rA2, tA3, lA3, rA3, tA4, lA4, rA4, tA5, lA5, rA5, tA6, lA6, rA6, tA7, lA7, rA7, tA8, tS, rS0, tS1, lS1, rS1, tS2, lS2, rS2, tS3, lS3, rS3, tS4, lS4, rS4, tS5, lS5, rS5, tS6, lS6, iB, iN, iG, iK, iR, cH, cF, cO, cA, cC, cT, cG, cM, cL, et, c1, gT_wI, gR_wI, gL_wI, gS_wI, gU_wI, gI_wI, gJ_wI, gI_wJ, gJ_wJ, gR_wJ, gT_wJ, gL_wJ, gS_wJ, gU_wJ, gI_wR, gJ_wR, gR_wR, gT_wR, gL_wR, gS_wR, gU_wR, wI_wI, wJ_wJ, wR_wR, j_s, j_add, j_addL, j_addR, j_mulL, j_mulR, j_cl, j_clL, j_neg, j_negL, j_nn, j_lt, j_le, j_eq, j_ltL, j_ltR, j_leL, j_leR, j_eqL, j_eqR, j_m1, j_m1L, j_m1R, j_eqLL, j_ltLL, j_leLL, n_le0, n_le1, n_lt0, n_lt1, gc_v, gc_n, ↓reduceIte, and_true, true_and, and_self, or_self, or_false, false_or, not_false_eq_true, not_true_eq_false, false_and, and_false, Nat.reduceAdd, Nat.reduceEqDiff, Nat.reduceLeDiff, Nat.reduceLT]
    rfl
theorem j_as (a b : Int32) : a + (b - a) = b := by rw [Int32.add_comm, Int32.sub_add_cancel]
theorem sp152a {d : Nat} {h : gd_H} {a σ : Nat} {E : gdE} {al : Int32} {r : gdR} (hd : 181 ≤ d) (hs : SS h a σ) (hx : XC (gI h) a σ E al r) {m : Nat} (hr : RI E m r) (hm : m < 1000000) (hE : EI E) (hl : LWf h (eL E)) : ∃ I' : Nat → Nat → Int32, go gd_P0 (d - 1) 152 2 [.ref a, .int 0] [] h = go gd_P0 (d - 1) 152 32 [.ref a, .int 0] [] (wI h I') ∧ (∀ b, b ≠ a + 7 → b ≠ a + 8 → I' b = gI h b) ∧ ∀ p, p < eN E → I' (a + 7) p = pGr E al r p := by
  obtain ⟨d, rfl⟩ : ∃ e, d = e + 1 := ⟨d - 1, by omega⟩
  obtain ⟨⟨hA1, hA2, hS1⟩, ⟨tA, rA8, tLw, rA9⟩, ⟨rA0, tA1, lA1⟩, ⟨rA1, tA2, lA2⟩, ⟨rA2, tA3, lA3⟩, ⟨rA3, tA4, lA4⟩, ⟨rA4, tA5, lA5⟩, ⟨rA5, tA6, lA6⟩, ⟨rA6, tA7, lA7⟩, ⟨rA7, tA8⟩, tS, ⟨rS0, tS1, lS1⟩, ⟨rS1, tS2, lS2⟩, ⟨rS2, tS3, lS3⟩, ⟨rS3, tS4, lS4⟩, ⟨rS4, tS5, lS5⟩, ⟨rS5, tS6, lS6⟩⟩ := id hs
  obtain ⟨⟨hB, hN⟩, ⟨iB, iN⟩, iG, iK, iR, cH, cF, cO, cA, cC, cW, cT, cG, cM, cL⟩ := id hx
  show ∃ I' : Nat → Nat → Int32, go gd_P0 d 152 2 [.ref a, .int 0] [] h = go gd_P0 d 152 32 [.ref a, .int 0] [] (wI h I') ∧ _
  have L := lp_e (fun i I => go gd_P0 d 152 2 [.ref a, .int (Int32.ofNat i)] [] (wI h I)) (fun i I => (∀ b, b ≠ a + 7 → b ≠ a + 8 → I b = gI h b) ∧ ∀ p, p < i → I (a + 7) p = pGr E al r p) (eN E) (gI h) ⟨fun _ _ _ => rfl, fun p hp => absurd hp (Nat.not_lt_zero p)⟩ ?_
  · obtain ⟨I', e1, e2, e3⟩ := L
    refine ⟨I', e1.trans ?_, e2, e3⟩
    try dsimp only
    rw [s152_2]
    have iN2 : I' σ 7 = Int32.ofNat (eN E) := by rw [e2 σ (by omega) (by omega)]; exact iN
    simp (disch := first | omega | assumption) only [tA, rA8, tLw, rA9, rA0, tA1, lA1, rA1, tA2, lA2, rA2, tA3, lA3, rA3, tA4, lA4, rA4, tA5, lA5, rA5, tA6, lA6, rA6, tA7, lA7, rA7, tA8, tS, rS0, tS1, lS1, rS1, tS2, lS2, rS2, tS3, lS3, rS3, tS4, lS4, rS4, tS5, lS5, rS5, tS6, lS6, iN2, gT_wI, gR_wI, gL_wI, gS_wI, gU_wI, gI_wI, gJ_wI, gI_wJ, gJ_wJ, gR_wJ, gT_wJ, gL_wJ, gS_wJ, gU_wJ, gI_wR, gJ_wR, gR_wR, gT_wR, gL_wR, gS_wR, gU_wR, wI_wI, wJ_wJ, wR_wR, j_s, j_add, j_addL, j_addR, j_mulL, j_mulR, j_cl, j_clL, j_neg, j_negL, j_nn, j_lt, j_le, j_eq, j_ltL, j_ltR, j_leL, j_leR, j_eqL, j_eqR, j_m1, j_m1L, j_m1R, j_eqLL, j_ltLL, j_leLL, n_le0, n_le1, n_lt0, n_lt1, gc_v, gc_n, ↓reduceIte, and_true, true_and, and_self, or_self, or_false, false_or, not_false_eq_true, not_true_eq_false, false_and, and_false, Nat.reduceAdd, Nat.reduceEqDiff, Nat.reduceLeDiff, Nat.reduceLT]
  · intro i hi I hI
    try dsimp only
    obtain ⟨hI1, hI2⟩ := hI
    have hxI : XC I a σ E al r := hx.fr hS1 (fun b hb => hI1 b (by omega) (by omega))
    have iN2 : I σ 7 = Int32.ofNat (eN E) := by rw [hI1 σ (by omega) (by omega)]; exact iN
    refine ⟨up1 (sgt I (a + 8) (pFa E al r i)) (a + 7) i (pGr E al r i), ?_, fun b hb hb2 => ?_, fun p hp => ?_⟩
    · rw [s152_2]
      simp (disch := first | omega | assumption) only [tA, rA8, tLw, rA9, rA0, tA1, lA1, rA1, tA2, lA2, rA2, tA3, lA3, rA3, tA4, lA4, rA4, tA5, lA5, rA5, tA6, lA6, rA6, tA7, lA7, rA7, tA8, tS, rS0, tS1, lS1, rS1, tS2, lS2, rS2, tS3, lS3, rS3, tS4, lS4, rS4, tS5, lS5, rS5, tS6, lS6, iN2, gT_wI, gR_wI, gL_wI, gS_wI, gU_wI, gI_wI, gJ_wI, gI_wJ, gJ_wJ, gR_wJ, gT_wJ, gL_wJ, gS_wJ, gU_wJ, gI_wR, gJ_wR, gR_wR, gT_wR, gL_wR, gS_wR, gU_wR, wI_wI, wJ_wJ, wR_wR, j_s, j_add, j_addL, j_addR, j_mulL, j_mulR, j_cl, j_clL, j_neg, j_negL, j_nn, j_lt, j_le, j_eq, j_ltL, j_ltR, j_leL, j_leR, j_eqL, j_eqR, j_m1, j_m1L, j_m1R, j_eqLL, j_ltLL, j_leLL, n_le0, n_le1, n_lt0, n_lt1, gc_v, gc_n, ↓reduceIte, and_true, true_and, and_self, or_self, or_false, false_or, not_false_eq_true, not_true_eq_false, false_and, and_false, Nat.reduceAdd, Nat.reduceEqDiff, Nat.reduceLeDiff, Nat.reduceLT]
      rw [sp153 (by omega) (hs.wI I) hxI hr hm hE (hl.wI (fun b hb => hI1 b (by omega) (by omega))) i (by omega), gc_v, s152_23]
      simp (disch := first | omega | assumption) only [tA, rA8, tLw, rA9, rA0, tA1, lA1, rA1, tA2, lA2, rA2, tA3, lA3, rA3, tA4, lA4, rA4, tA5, lA5, rA5, tA6, lA6, rA6, tA7, lA7, rA7, tA8, tS, rS0, tS1, lS1, rS1, tS2, lS2, rS2, tS3, lS3, rS3, tS4, lS4, rS4, tS5, lS5, rS5, tS6, lS6, gT_wI, gR_wI, gL_wI, gS_wI, gU_wI, gI_wI, gJ_wI, gI_wJ, gJ_wJ, gR_wJ, gT_wJ, gL_wJ, gS_wJ, gU_wJ, gI_wR, gJ_wR, gR_wR, gT_wR, gL_wR, gS_wR, gU_wR, wI_wI, wJ_wJ, wR_wR, j_s, j_add, j_addL, j_addR, j_mulL, j_mulR, j_cl, j_clL, j_neg, j_negL, j_nn, j_lt, j_le, j_eq, j_ltL, j_ltR, j_leL, j_leR, j_eqL, j_eqR, j_m1, j_m1L, j_m1R, j_eqLL, j_ltLL, j_leLL, n_le0, n_le1, n_lt0, n_lt1, gc_v, gc_n, ↓reduceIte, and_true, true_and, and_self, or_self, or_false, false_or, not_false_eq_true, not_true_eq_false, false_and, and_false, Nat.reduceAdd, Nat.reduceEqDiff, Nat.reduceLeDiff, Nat.reduceLT]
    · rw [up1_nc _ _ _ hb, sgt_ne _ _ hb2]; exact hI1 b hb hb2
    · by_cases z : p = i
      · subst z; rw [up1_eq]
      · rw [up1_nj _ _ z, sgt_ne _ _ (by omega)]; exact hI2 p (by omega)
theorem sp152b {d : Nat} {h : gd_H} {a σ : Nat} {E : gdE} {al : Int32} {r : gdR} (hd : 1 ≤ d) (hs : SS h a σ) (hx : XC (gI h) a σ E al r) (g : Nat → Int32) (hg : ∀ p, p < eN E → gI h (a + 7) p = g p) : ∃ I' : Nat → Nat → Int32, go gd_P0 (d - 1) 152 32 [.ref a, .int 0] [] h = go gd_P0 (d - 1) 152 76 [.ref a, .int 0] [] (wI h I') ∧ (∀ b, b ≠ a + 2 → I' b = gI h b) ∧ ∀ p, p < 7 → I' (a + 2) p = if p < eN E then jmin 999 (r p + g p) else r p := by
  obtain ⟨d, rfl⟩ : ∃ e, d = e + 1 := ⟨d - 1, by omega⟩
  obtain ⟨⟨hA1, hA2, hS1⟩, ⟨tA, rA8, tLw, rA9⟩, ⟨rA0, tA1, lA1⟩, ⟨rA1, tA2, lA2⟩, ⟨rA2, tA3, lA3⟩, ⟨rA3, tA4, lA4⟩, ⟨rA4, tA5, lA5⟩, ⟨rA5, tA6, lA6⟩, ⟨rA6, tA7, lA7⟩, ⟨rA7, tA8⟩, tS, ⟨rS0, tS1, lS1⟩, ⟨rS1, tS2, lS2⟩, ⟨rS2, tS3, lS3⟩, ⟨rS3, tS4, lS4⟩, ⟨rS4, tS5, lS5⟩, ⟨rS5, tS6, lS6⟩⟩ := id hs
  obtain ⟨⟨hB, hN⟩, ⟨iB, iN⟩, iG, iK, iR, cH, cF, cO, cA, cC, cW, cT, cG, cM, cL⟩ := id hx
  show ∃ I' : Nat → Nat → Int32, go gd_P0 d 152 32 [.ref a, .int 0] [] h = go gd_P0 d 152 76 [.ref a, .int 0] [] (wI h I') ∧ _
  have L := lp_e (fun i I => go gd_P0 d 152 32 [.ref a, .int (Int32.ofNat i)] [] (wI h I)) (fun i I => (∀ b, b ≠ a + 2 → I b = gI h b) ∧ ∀ p, p < 7 → I (a + 2) p = if p < i then jmin 999 (r p + g p) else r p) (eN E) (gI h) ⟨fun _ _ => rfl, fun p hp => by rw [if_neg (by omega)]; exact cH p hp⟩ ?_
  · obtain ⟨I', e1, e2, e3⟩ := L
    refine ⟨I', e1.trans ?_, e2, e3⟩
    try dsimp only
    rw [s152_32]
    have iN2 : I' σ 7 = Int32.ofNat (eN E) := by rw [e2 σ (by omega)]; exact iN
    simp (disch := first | omega | assumption) only [tA, rA8, tLw, rA9, rA0, tA1, lA1, rA1, tA2, lA2, rA2, tA3, lA3, rA3, tA4, lA4, rA4, tA5, lA5, rA5, tA6, lA6, rA6, tA7, lA7, rA7, tA8, tS, rS0, tS1, lS1, rS1, tS2, lS2, rS2, tS3, lS3, rS3, tS4, lS4, rS4, tS5, lS5, rS5, tS6, lS6, iN2, gT_wI, gR_wI, gL_wI, gS_wI, gU_wI, gI_wI, gJ_wI, gI_wJ, gJ_wJ, gR_wJ, gT_wJ, gL_wJ, gS_wJ, gU_wJ, gI_wR, gJ_wR, gR_wR, gT_wR, gL_wR, gS_wR, gU_wR, wI_wI, wJ_wJ, wR_wR, j_s, j_add, j_addL, j_addR, j_mulL, j_mulR, j_cl, j_clL, j_neg, j_negL, j_nn, j_lt, j_le, j_eq, j_ltL, j_ltR, j_leL, j_leR, j_eqL, j_eqR, j_m1, j_m1L, j_m1R, j_eqLL, j_ltLL, j_leLL, n_le0, n_le1, n_lt0, n_lt1, gc_v, gc_n, ↓reduceIte, and_true, true_and, and_self, or_self, or_false, false_or, not_false_eq_true, not_true_eq_false, false_and, and_false, Nat.reduceAdd, Nat.reduceEqDiff, Nat.reduceLeDiff, Nat.reduceLT]
  · intro i hi I hI
    try dsimp only
    obtain ⟨hI1, hI2⟩ := hI
    have iN2 : I σ 7 = Int32.ofNat (eN E) := by rw [hI1 σ (by omega)]; exact iN
    have m2 : I (a + 7) i = g i := by rw [hI1 (a + 7) (by omega)]; exact hg i hi
    have h2 : I (a + 2) i = r i := by rw [hI2 i (by omega), if_neg (by omega)]
    refine ⟨up1 I (a + 2) i (jmin 999 (r i + g i)), ?_, fun b hb => ?_, fun p hp => ?_⟩
    · rw [s152_32]
      simp (disch := first | omega | assumption) only [tA, rA8, tLw, rA9, rA0, tA1, lA1, rA1, tA2, lA2, rA2, tA3, lA3, rA3, tA4, lA4, rA4, tA5, lA5, rA5, tA6, lA6, rA6, tA7, lA7, rA7, tA8, tS, rS0, tS1, lS1, rS1, tS2, lS2, rS2, tS3, lS3, rS3, tS4, lS4, rS4, tS5, lS5, rS5, tS6, lS6, iN2, m2, h2, s152_67, gT_wI, gR_wI, gL_wI, gS_wI, gU_wI, gI_wI, gJ_wI, gI_wJ, gJ_wJ, gR_wJ, gT_wJ, gL_wJ, gS_wJ, gU_wJ, gI_wR, gJ_wR, gR_wR, gT_wR, gL_wR, gS_wR, gU_wR, wI_wI, wJ_wJ, wR_wR, j_s, j_add, j_addL, j_addR, j_mulL, j_mulR, j_cl, j_clL, j_neg, j_negL, j_nn, j_lt, j_le, j_eq, j_ltL, j_ltR, j_leL, j_leR, j_eqL, j_eqR, j_m1, j_m1L, j_m1R, j_eqLL, j_ltLL, j_leLL, n_le0, n_le1, n_lt0, n_lt1, gc_v, gc_n, ↓reduceIte, and_true, true_and, and_self, or_self, or_false, false_or, not_false_eq_true, not_true_eq_false, false_and, and_false, Nat.reduceAdd, Nat.reduceEqDiff, Nat.reduceLeDiff, Nat.reduceLT]
      rfl
    · rw [up1_nc _ _ _ hb]; exact hI1 b hb
    · by_cases z : p = i
      · subst z; rw [up1_eq, if_pos (by omega)]
      · rw [up1_nj _ _ z, hI2 p hp]
        by_cases z2 : p < i
        · rw [if_pos z2, if_pos (by omega)]
        · rw [if_neg z2, if_neg (by omega)]
theorem sp152c {d : Nat} {h : gd_H} {a σ : Nat} {E : gdE} {al : Int32} {r : gdR} (hd : 4 ≤ d) (hs : SS h a σ) {r' : gdR} (hx : XC (gI h) a σ E al r') {m : Nat} (e49 : r' 49 = Int32.ofNat m) (hm : m < 1000000) : ∃ I' : Nat → Nat → Int32, go gd_P0 (d - 1) 152 76 [.ref a, .int 0] [] h = some (.inl none, wI h I') ∧ (∀ b, b ≠ a → b ≠ a + 1 → I' b = gI h b) ∧ (∀ k, k < 6 → I' (a + 1) k = if k < eB E then pTh E al r' k else r' (42 + k)) ∧ I' a = up1 (gI h) a 10 (r' 49 + 1) a := by
  obtain ⟨d, rfl⟩ : ∃ e, d = e + 1 := ⟨d - 1, by omega⟩
  obtain ⟨⟨hA1, hA2, hS1⟩, ⟨tA, rA8, tLw, rA9⟩, ⟨rA0, tA1, lA1⟩, ⟨rA1, tA2, lA2⟩, ⟨rA2, tA3, lA3⟩, ⟨rA3, tA4, lA4⟩, ⟨rA4, tA5, lA5⟩, ⟨rA5, tA6, lA6⟩, ⟨rA6, tA7, lA7⟩, ⟨rA7, tA8⟩, tS, ⟨rS0, tS1, lS1⟩, ⟨rS1, tS2, lS2⟩, ⟨rS2, tS3, lS3⟩, ⟨rS3, tS4, lS4⟩, ⟨rS4, tS5, lS5⟩, ⟨rS5, tS6, lS6⟩⟩ := id hs
  obtain ⟨⟨hB, hN⟩, ⟨iB, iN⟩, iG, iK, iR, cH, cF, cO, cA, cC, cW, cT, cG, cM, cL⟩ := id hx
  show ∃ I' : Nat → Nat → Int32, go gd_P0 d 152 76 [.ref a, .int 0] [] h = some (.inl none, wI h I') ∧ _
  have L := lp_e (fun i I => go gd_P0 d 152 76 [.ref a, .int (Int32.ofNat i)] [] (wI h I)) (fun i I => (∀ b, b ≠ a + 1 → I b = gI h b) ∧ ∀ k, k < 6 → I (a + 1) k = if k < i then pTh E al r' k else r' (42 + k)) (eB E) (gI h) ⟨fun _ _ => rfl, fun p hp => by rw [if_neg (by omega)]; exact cT p hp⟩ ?_
  · obtain ⟨I', e1, e2, e3⟩ := L
    have iB2 : I' σ 6 = Int32.ofNat (eB E) := by rw [e2 σ (by omega)]; exact iB
    have cM2 : I' a 10 = r' 49 := by rw [e2 a (by omega)]; exact cM
    refine ⟨up1 I' a 10 (r' 49 + 1), e1.trans ?_, fun b hb hb2 => ?_, fun k hk => ?_, ?_⟩
    · try dsimp only
      rw [s152_76]
      simp (disch := first | omega | assumption) only [tA, rA8, tLw, rA9, rA0, tA1, lA1, rA1, tA2, lA2, rA2, tA3, lA3, rA3, tA4, lA4, rA4, tA5, lA5, rA5, tA6, lA6, rA6, tA7, lA7, rA7, tA8, tS, rS0, tS1, lS1, rS1, tS2, lS2, rS2, tS3, lS3, rS3, tS4, lS4, rS4, tS5, lS5, rS5, tS6, lS6, iB2, cM2, gT_wI, gR_wI, gL_wI, gS_wI, gU_wI, gI_wI, gJ_wI, gI_wJ, gJ_wJ, gR_wJ, gT_wJ, gL_wJ, gS_wJ, gU_wJ, gI_wR, gJ_wR, gR_wR, gT_wR, gL_wR, gS_wR, gU_wR, wI_wI, wJ_wJ, wR_wR, j_s, j_add, j_addL, j_addR, j_mulL, j_mulR, j_cl, j_clL, j_neg, j_negL, j_nn, j_lt, j_le, j_eq, j_ltL, j_ltR, j_leL, j_leR, j_eqL, j_eqR, j_m1, j_m1L, j_m1R, j_eqLL, j_ltLL, j_leLL, n_le0, n_le1, n_lt0, n_lt1, gc_v, gc_n, ↓reduceIte, and_true, true_and, and_self, or_self, or_false, false_or, not_false_eq_true, not_true_eq_false, false_and, and_false, Nat.reduceAdd, Nat.reduceEqDiff, Nat.reduceLeDiff, Nat.reduceLT]
    · rw [up1_nc _ _ _ hb]; exact e2 b hb2
    · rw [up1_nc _ _ _ (by omega)]; exact e3 k hk
    · funext j
      unfold up1
      rw [e2 a (by omega)]
  · intro i hi I hI
    try dsimp only
    obtain ⟨hI1, hI2⟩ := hI
    have iB2 : I σ 6 = Int32.ofNat (eB E) := by rw [hI1 σ (by omega)]; exact iB
    have h2 : I (a + 1) i = r' (42 + i) := by rw [hI2 i (by omega), if_neg (by omega)]
    have hxI : XC I a σ E al (pT2 E al r' i) := by
      have g0 := hI1 a (by omega)
      have gs0 := hI1 σ (by omega)
      refine ⟨⟨hB, hN⟩, ⟨?_, ?_⟩, ?_, ?_, ?_, ?_, ?_, ?_, ?_, ?_, ?_, ?_, ?_, ?_, ?_⟩
      · rw [gs0]; exact iB
      · rw [gs0]; exact iN
      · intro q hq; rw [hI1 _ (by omega)]; exact iG q hq
      · intro q hq; rw [hI1 _ (by omega)]; exact iK q hq
      · intro q hq; rw [hI1 _ (by omega)]; exact iR q hq
      · intro q hq; rw [hI1 _ (by omega), pT2_o (by omega)]; exact cH q hq
      · intro q hq; rw [hI1 _ (by omega), pT2_o (by omega)]; exact cF q hq
      · intro q hq; rw [hI1 _ (by omega), pT2_o (by omega)]; exact cO q hq
      · intro q hq; rw [hI1 _ (by omega), pT2_o (by omega)]; exact cA q hq
      · intro q hq; rw [hI1 _ (by omega), pT2_o (by omega)]; exact cC q hq
      · intro q hq; rw [g0, pT2_o (by omega)]; exact cW q hq
      · intro q hq
        rw [hI2 q hq]
        by_cases z : q < i
        · rw [if_pos z, pT2_in z]
        · rw [if_neg z, pT2_o (by omega)]
      · rw [g0, pT2_o (by omega)]; exact cG
      · rw [g0, pT2_o (by omega)]; exact cM
      · rw [g0]; exact cL
    have e159 := sp159 (d := d) (by omega) (hs.wI I) hxI (m := m) (by rw [pT2_o (by omega)]; exact e49) hm i hi
    rw [pTh_cg (r := r') (pT2_o (by omega)) (pT2_o (by omega)) (pT2_o (by omega)), pT2_o (by omega)] at e159
    refine ⟨up1 I (a + 1) i (pTh E al r' i), ?_, fun b hb => ?_, fun p hp => ?_⟩
    · rw [s152_76]
      simp (disch := first | omega | assumption) only [tA, rA8, tLw, rA9, rA0, tA1, lA1, rA1, tA2, lA2, rA2, tA3, lA3, rA3, tA4, lA4, rA4, tA5, lA5, rA5, tA6, lA6, rA6, tA7, lA7, rA7, tA8, tS, rS0, tS1, lS1, rS1, tS2, lS2, rS2, tS3, lS3, rS3, tS4, lS4, rS4, tS5, lS5, rS5, tS6, lS6, iB2, h2, gT_wI, gR_wI, gL_wI, gS_wI, gU_wI, gI_wI, gJ_wI, gI_wJ, gJ_wJ, gR_wJ, gT_wJ, gL_wJ, gS_wJ, gU_wJ, gI_wR, gJ_wR, gR_wR, gT_wR, gL_wR, gS_wR, gU_wR, wI_wI, wJ_wJ, wR_wR, j_s, j_add, j_addL, j_addR, j_mulL, j_mulR, j_cl, j_clL, j_neg, j_negL, j_nn, j_lt, j_le, j_eq, j_ltL, j_ltR, j_leL, j_leR, j_eqL, j_eqR, j_m1, j_m1L, j_m1R, j_eqLL, j_ltLL, j_leLL, n_le0, n_le1, n_lt0, n_lt1, gc_v, gc_n, ↓reduceIte, and_true, true_and, and_self, or_self, or_false, false_or, not_false_eq_true, not_true_eq_false, false_and, and_false, Nat.reduceAdd, Nat.reduceEqDiff, Nat.reduceLeDiff, Nat.reduceLT]
      rw [e159, gc_v, s152_99]
      simp (disch := first | omega | assumption) only [tA, rA8, tLw, rA9, rA0, tA1, lA1, rA1, tA2, lA2, rA2, tA3, lA3, rA3, tA4, lA4, rA4, tA5, lA5, rA5, tA6, lA6, rA6, tA7, lA7, rA7, tA8, tS, rS0, tS1, lS1, rS1, tS2, lS2, rS2, tS3, lS3, rS3, tS4, lS4, rS4, tS5, lS5, rS5, tS6, lS6, j_as, gT_wI, gR_wI, gL_wI, gS_wI, gU_wI, gI_wI, gJ_wI, gI_wJ, gJ_wJ, gR_wJ, gT_wJ, gL_wJ, gS_wJ, gU_wJ, gI_wR, gJ_wR, gR_wR, gT_wR, gL_wR, gS_wR, gU_wR, wI_wI, wJ_wJ, wR_wR, j_s, j_add, j_addL, j_addR, j_mulL, j_mulR, j_cl, j_clL, j_neg, j_negL, j_nn, j_lt, j_le, j_eq, j_ltL, j_ltR, j_leL, j_leR, j_eqL, j_eqR, j_m1, j_m1L, j_m1R, j_eqLL, j_ltLL, j_leLL, n_le0, n_le1, n_lt0, n_lt1, gc_v, gc_n, ↓reduceIte, and_true, true_and, and_self, or_self, or_false, false_or, not_false_eq_true, not_true_eq_false, false_and, and_false, Nat.reduceAdd, Nat.reduceEqDiff, Nat.reduceLeDiff, Nat.reduceLT]
    · rw [up1_nc _ _ _ hb]; exact hI1 b hb
    · by_cases z : p = i
      · subst z; rw [up1_eq, if_pos (by omega)]
      · rw [up1_nj _ _ z, hI2 p hp]
        by_cases z2 : p < i
        · rw [if_pos z2, if_pos (by omega)]
        · rw [if_neg z2, if_neg (by omega)]
/-- a month's end -/
theorem sp152 {d : Nat} {h : gd_H} {a σ : Nat} {E : gdE} {al : Int32} {r : gdR} (hd : 182 ≤ d) (hs : SS h a σ) (hx : XC (gI h) a σ E al r) {m : Nat} (hr : RI E m r) (hm : m < 1000000) (hE : EI E) (hl : LWf h (eL E)) : ∃ I' : Nat → Nat → Int32, run gd_P0 d 152 [.ref a] h = some (.inl none, wI h I') ∧ XC I' a σ E al (pMo E al r) ∧ ∀ b, (b < a ∨ a + 8 < b) → I' b = gI h b := by
  obtain ⟨d, rfl⟩ : ∃ e, d = e + 1 := ⟨d - 1, by omega⟩
  obtain ⟨⟨hA1, hA2, hS1⟩, ⟨tA, rA8, tLw, rA9⟩, ⟨rA0, tA1, lA1⟩, ⟨rA1, tA2, lA2⟩, ⟨rA2, tA3, lA3⟩, ⟨rA3, tA4, lA4⟩, ⟨rA4, tA5, lA5⟩, ⟨rA5, tA6, lA6⟩, ⟨rA6, tA7, lA7⟩, ⟨rA7, tA8⟩, tS, ⟨rS0, tS1, lS1⟩, ⟨rS1, tS2, lS2⟩, ⟨rS2, tS3, lS3⟩, ⟨rS3, tS4, lS4⟩, ⟨rS4, tS5, lS5⟩, ⟨rS5, tS6, lS6⟩⟩ := id hs
  obtain ⟨⟨hB, hN⟩, ⟨iB, iN⟩, iG, iK, iR, cH, cF, cO, cA, cC, cW, cT, cG, cM, cL⟩ := id hx
  obtain ⟨I1, e1, f1, c1⟩ := sp152a (d := d + 1) (by omega) hs hx hr hm hE hl
  have hx1 : XC I1 a σ E al r := hx.fr hS1 (fun b hb => f1 b (by omega) (by omega))
  obtain ⟨I2, e2, f2, c2⟩ := sp152b (d := d + 1) (by omega) (hs.wI I1) hx1 (pGr E al r) c1
  have hx2 : XC I2 a σ E al (pH2 E al r) := by
    have f : ∀ b, b ≠ a + 2 → b ≠ a + 7 → b ≠ a + 8 → I2 b = gI h b := fun b h1 h2 h3 => (f2 b h1).trans (f1 b h2 h3)
    refine ⟨⟨hB, hN⟩, ⟨?_, ?_⟩, ?_, ?_, ?_, ?_, ?_, ?_, ?_, ?_, ?_, ?_, ?_, ?_, ?_⟩
    · rw [f _ (by omega) (by omega) (by omega)]; exact iB
    · rw [f _ (by omega) (by omega) (by omega)]; exact iN
    · intro q hq; rw [f _ (by omega) (by omega) (by omega)]; exact iG q hq
    · intro q hq; rw [f _ (by omega) (by omega) (by omega)]; exact iK q hq
    · intro q hq; rw [f _ (by omega) (by omega) (by omega)]; exact iR q hq
    · intro q hq; exact c2 q hq
    · intro q hq; rw [f _ (by omega) (by omega) (by omega), pH2_ge (by omega)]; exact cF q hq
    · intro q hq; rw [f _ (by omega) (by omega) (by omega), pH2_ge (by omega)]; exact cO q hq
    · intro q hq; rw [f _ (by omega) (by omega) (by omega), pH2_ge (by omega)]; exact cA q hq
    · intro q hq; rw [f _ (by omega) (by omega) (by omega), pH2_ge (by omega)]; exact cC q hq
    · intro q hq; rw [f _ (by omega) (by omega) (by omega), pH2_ge (by omega)]; exact cW q hq
    · intro q hq; rw [f _ (by omega) (by omega) (by omega), pH2_ge (by omega)]; exact cT q hq
    · rw [f _ (by omega) (by omega) (by omega), pH2_ge (by omega)]; exact cG
    · rw [f _ (by omega) (by omega) (by omega), pH2_ge (by omega)]; exact cM
    · rw [f _ (by omega) (by omega) (by omega)]; exact cL
  obtain ⟨I3, e3, f3, c3, c4⟩ := sp152c (d := d + 1) (r := r) (by omega) (hs.wI I2) hx2 (m := m) (by rw [pH2_ge (by omega)]; exact hr.2.2.1) hm
  refine ⟨I3, ?_, ?_, fun b hb => by rw [f3 b (by omega) (by omega)]; exact (f2 b (by omega)).trans (f1 b (by omega) (by omega))⟩
  · rw [r152, s152_0]
    exact e1.trans (e2.trans e3)
  · obtain ⟨⟨hB, hN⟩, ⟨iB, iN⟩, iG, iK, iR, cH, cF, cO, cA, cC, cW, cT, cG, cM, cL⟩ := id hx2
    have gm : ∀ j, 42 + eB E ≤ j ∨ (7 ≤ j ∧ j < 42) → j ≠ 49 → pMo E al r j = r j := fun j h1 h2 => by
      unfold pMo
      rw [if_neg (by omega), if_neg (by omega), if_neg h2]
    have f : ∀ b, b ≠ a → b ≠ a + 1 → I3 b = I2 b := f3
    have fa : ∀ j, j ≠ 10 → I3 a j = I2 a j := fun j hj => by rw [c4]; exact up1_nj _ _ hj
    refine ⟨⟨hB, hN⟩, ⟨?_, ?_⟩, ?_, ?_, ?_, ?_, ?_, ?_, ?_, ?_, ?_, ?_, ?_, ?_, ?_⟩
    · rw [f _ (by omega) (by omega)]; exact iB
    · rw [f _ (by omega) (by omega)]; exact iN
    · intro q hq; rw [f _ (by omega) (by omega)]; exact iG q hq
    · intro q hq; rw [f _ (by omega) (by omega)]; exact iK q hq
    · intro q hq; rw [f _ (by omega) (by omega)]; exact iR q hq
    · intro q hq; rw [f _ (by omega) (by omega), cH q hq, pMo_2 hN hB, if_neg (by omega), if_neg (by omega)]
    · intro q hq; rw [f _ (by omega) (by omega), gm _ (by omega) (by omega), cF q hq, pH2_ge (by omega)]
    · intro q hq; rw [f _ (by omega) (by omega), gm _ (by omega) (by omega), cO q hq, pH2_ge (by omega)]
    · intro q hq; rw [f _ (by omega) (by omega), gm _ (by omega) (by omega), cA q hq, pH2_ge (by omega)]
    · intro q hq; rw [f _ (by omega) (by omega), gm _ (by omega) (by omega), cC q hq, pH2_ge (by omega)]
    · intro q hq
      have e := cW q hq
      rw [pH2_ge (by omega)] at e
      rw [fa _ (by omega), gm _ (by omega) (by omega)]; exact e
    · intro q hq
      rw [c3 q hq]
      rw [pMo_2 hN hB]
      by_cases z : q < eB E
      · rw [if_pos z, if_pos (by omega), show 42 + q - 42 = q by omega]
      · rw [if_neg z, if_neg (by omega), if_neg (by omega)]
    · rw [fa _ (by omega), gm _ (by omega) (by omega), cG, pH2_ge (by omega)]
    · rw [c4]
      show up1 I2 a 10 _ a 10 = _
      rw [up1_eq, pMo_2 hN hB, if_neg (by omega), if_pos rfl]
    · rw [fa _ (by omega)]; exact cL
theorem sp151 {d : Nat} {h : gd_H} {a σ : Nat} {E : gdE} {al : Int32} {r : gdR} (hd : 183 ≤ d) (hs : SS h a σ) (hx : XC (gI h) a σ E al r) {m : Nat} (hr : RI E m r) (hm : m < 1000000) (hE : EI E) (hl : LWf h (eL E)) : ∃ I' : Nat → Nat → Int32, run gd_P0 d 151 [.ref a] h = some (.inl (some (.int (if m < 400 then 1 else 0))), wI h I') ∧ XC I' a σ E al (if m < 400 then pMo E al r else r) ∧ ∀ b, (b < a ∨ a + 8 < b) → I' b = gI h b := by
  obtain ⟨d, rfl⟩ : ∃ e, d = e + 1 := ⟨d - 1, by omega⟩
  obtain ⟨⟨hA1, hA2, hS1⟩, ⟨tA, rA8, tLw, rA9⟩, ⟨rA0, tA1, lA1⟩, ⟨rA1, tA2, lA2⟩, ⟨rA2, tA3, lA3⟩, ⟨rA3, tA4, lA4⟩, ⟨rA4, tA5, lA5⟩, ⟨rA5, tA6, lA6⟩, ⟨rA6, tA7, lA7⟩, ⟨rA7, tA8⟩, tS, ⟨rS0, tS1, lS1⟩, ⟨rS1, tS2, lS2⟩, ⟨rS2, tS3, lS3⟩, ⟨rS3, tS4, lS4⟩, ⟨rS4, tS5, lS5⟩, ⟨rS5, tS6, lS6⟩⟩ := id hs
  obtain ⟨⟨hB, hN⟩, ⟨iB, iN⟩, iG, iK, iR, cH, cF, cO, cA, cC, cW, cT, cG, cM, cL⟩ := id hx
  have em := hr.2.2.1
  rw [r151, s151_0]
  by_cases c : m < 400
  · obtain ⟨I', e1, e2, e3⟩ := sp152 (d := d) (by omega) hs hx hr hm hE hl
    refine ⟨I', ?_, ?_, e3⟩
    · simp (disch := first | omega | assumption) only [tA, rA8, tLw, rA9, rA0, tA1, lA1, rA1, tA2, lA2, rA2, tA3, lA3, rA3, tA4, lA4, rA4, tA5, lA5, rA5, tA6, lA6, rA6, tA7, lA7, rA7, tA8, tS, rS0, tS1, lS1, rS1, tS2, lS2, rS2, tS3, lS3, rS3, tS4, lS4, rS4, tS5, lS5, rS5, tS6, lS6, iB, iN, iG, iK, iR, cH, cF, cO, cA, cC, cT, cG, cM, cL, em, c, gT_wI, gR_wI, gL_wI, gS_wI, gU_wI, gI_wI, gJ_wI, gI_wJ, gJ_wJ, gR_wJ, gT_wJ, gL_wJ, gS_wJ, gU_wJ, gI_wR, gJ_wR, gR_wR, gT_wR, gL_wR, gS_wR, gU_wR, wI_wI, wJ_wJ, wR_wR, j_s, j_add, j_addL, j_addR, j_mulL, j_mulR, j_cl, j_clL, j_neg, j_negL, j_nn, j_lt, j_le, j_eq, j_ltL, j_ltR, j_leL, j_leR, j_eqL, j_eqR, j_m1, j_m1L, j_m1R, j_eqLL, j_ltLL, j_leLL, n_le0, n_le1, n_lt0, n_lt1, gc_v, gc_n, ↓reduceIte, and_true, true_and, and_self, or_self, or_false, false_or, not_false_eq_true, not_true_eq_false, false_and, and_false, Nat.reduceAdd, Nat.reduceEqDiff, Nat.reduceLeDiff, Nat.reduceLT]
      rw [e1, gc_n, s151_16]
    · rw [if_pos c]; exact e2
  · refine ⟨gI h, ?_, ?_, fun b _ => rfl⟩
    · simp (disch := first | omega | assumption) only [tA, rA8, tLw, rA9, rA0, tA1, lA1, rA1, tA2, lA2, rA2, tA3, lA3, rA3, tA4, lA4, rA4, tA5, lA5, rA5, tA6, lA6, rA6, tA7, lA7, rA7, tA8, tS, rS0, tS1, lS1, rS1, tS2, lS2, rS2, tS3, lS3, rS3, tS4, lS4, rS4, tS5, lS5, rS5, tS6, lS6, iB, iN, iG, iK, iR, cH, cF, cO, cA, cC, cT, cG, cM, cL, em, c, gT_wI, gR_wI, gL_wI, gS_wI, gU_wI, gI_wI, gJ_wI, gI_wJ, gJ_wJ, gR_wJ, gT_wJ, gL_wJ, gS_wJ, gU_wJ, gI_wR, gJ_wR, gR_wR, gT_wR, gL_wR, gS_wR, gU_wR, wI_wI, wJ_wJ, wR_wR, j_s, j_add, j_addL, j_addR, j_mulL, j_mulR, j_cl, j_clL, j_neg, j_negL, j_nn, j_lt, j_le, j_eq, j_ltL, j_ltR, j_leL, j_leR, j_eqL, j_eqR, j_m1, j_m1L, j_m1R, j_eqLL, j_ltLL, j_leLL, n_le0, n_le1, n_lt0, n_lt1, gc_v, gc_n, ↓reduceIte, and_true, true_and, and_self, or_self, or_false, false_or, not_false_eq_true, not_true_eq_false, false_and, and_false, Nat.reduceAdd, Nat.reduceEqDiff, Nat.reduceLeDiff, Nat.reduceLT]
      rfl
    · rw [if_neg c]; exact hx
/-- a state without its school; a school's cells -/
def SA (h : gd_H) (a : Nat) : Prop := (100 < a ∧ a + 16 ≤ 1212) ∧ (gT h a = 4 ∧ gR h a 8 = 98 ∧ gT h 98 = 2) ∧ (gR h a 0 = a + 1 ∧ gT h (a + 1) = 31 ∧ gL h (a + 1) = 6) ∧ (gR h a 1 = a + 2 ∧ gT h (a + 2) = 31 ∧ gL h (a + 2) = 7) ∧ (gR h a 2 = a + 3 ∧ gT h (a + 3) = 31 ∧ gL h (a + 3) = 7) ∧ (gR h a 3 = a + 4 ∧ gT h (a + 4) = 31 ∧ gL h (a + 4) = 7) ∧ (gR h a 4 = a + 5 ∧ gT h (a + 5) = 31 ∧ gL h (a + 5) = 7) ∧ (gR h a 5 = a + 6 ∧ gT h (a + 6) = 31 ∧ gL h (a + 6) = 7) ∧ (gR h a 6 = a + 7 ∧ gT h (a + 7) = 31 ∧ gL h (a + 7) = 7) ∧ (gR h a 7 = a + 8 ∧ gT h (a + 8) = 5)
def SC (h : gd_H) (σ : Nat) : Prop := 1223 < σ ∧ gT h σ = 6 ∧ (gR h σ 0 = σ + 1 ∧ gT h (σ + 1) = 31 ∧ gL h (σ + 1) = 6) ∧ (gR h σ 1 = σ + 2 ∧ gT h (σ + 2) = 31 ∧ gL h (σ + 2) = 6) ∧ (gR h σ 2 = σ + 3 ∧ gT h (σ + 3) = 31 ∧ gL h (σ + 3) = 7) ∧ (gR h σ 3 = σ + 4 ∧ gT h (σ + 4) = 31 ∧ gL h (σ + 4) = 7) ∧ (gR h σ 4 = σ + 5 ∧ gT h (σ + 5) = 31 ∧ gL h (σ + 5) = 7) ∧ (gR h σ 5 = σ + 6 ∧ gT h (σ + 6) = 31 ∧ gL h (σ + 6) = 12)
theorem SS.mk {h : gd_H} {a σ : Nat} (h1 : SA h a) (h2 : SC h σ) (h9 : gR h a 9 = σ) : SS h a σ := by
  obtain ⟨⟨hA1, hA2⟩, ⟨tA, rA8, tLw⟩, ⟨rA0, tA1, lA1⟩, ⟨rA1, tA2, lA2⟩, ⟨rA2, tA3, lA3⟩, ⟨rA3, tA4, lA4⟩, ⟨rA4, tA5, lA5⟩, ⟨rA5, tA6, lA6⟩, ⟨rA6, tA7, lA7⟩, ⟨rA7, tA8⟩⟩ := h1
  obtain ⟨hS1, tS, ⟨rS0, tS1, lS1⟩, ⟨rS1, tS2, lS2⟩, ⟨rS2, tS3, lS3⟩, ⟨rS3, tS4, lS4⟩, ⟨rS4, tS5, lS5⟩, ⟨rS5, tS6, lS6⟩⟩ := h2
  exact ⟨⟨hA1, hA2, hS1⟩, ⟨tA, rA8, tLw, h9⟩, ⟨rA0, tA1, lA1⟩, ⟨rA1, tA2, lA2⟩, ⟨rA2, tA3, lA3⟩, ⟨rA3, tA4, lA4⟩, ⟨rA4, tA5, lA5⟩, ⟨rA5, tA6, lA6⟩, ⟨rA6, tA7, lA7⟩, ⟨rA7, tA8⟩, tS, ⟨rS0, tS1, lS1⟩, ⟨rS1, tS2, lS2⟩, ⟨rS2, tS3, lS3⟩, ⟨rS3, tS4, lS4⟩, ⟨rS4, tS5, lS5⟩, ⟨rS5, tS6, lS6⟩⟩
theorem SS.sa {h : gd_H} {a σ : Nat} (hs : SS h a σ) : SA h a := by
  obtain ⟨⟨hA1, hA2, hS1⟩, ⟨tA, rA8, tLw, rA9⟩, ⟨rA0, tA1, lA1⟩, ⟨rA1, tA2, lA2⟩, ⟨rA2, tA3, lA3⟩, ⟨rA3, tA4, lA4⟩, ⟨rA4, tA5, lA5⟩, ⟨rA5, tA6, lA6⟩, ⟨rA6, tA7, lA7⟩, ⟨rA7, tA8⟩, tS, ⟨rS0, tS1, lS1⟩, ⟨rS1, tS2, lS2⟩, ⟨rS2, tS3, lS3⟩, ⟨rS3, tS4, lS4⟩, ⟨rS4, tS5, lS5⟩, ⟨rS5, tS6, lS6⟩⟩ := id hs
  exact ⟨⟨hA1, hA2⟩, ⟨tA, rA8, tLw⟩, ⟨rA0, tA1, lA1⟩, ⟨rA1, tA2, lA2⟩, ⟨rA2, tA3, lA3⟩, ⟨rA3, tA4, lA4⟩, ⟨rA4, tA5, lA5⟩, ⟨rA5, tA6, lA6⟩, ⟨rA6, tA7, lA7⟩, ⟨rA7, tA8⟩⟩
theorem SS.sc {h : gd_H} {a σ : Nat} (hs : SS h a σ) : SC h σ := by
  obtain ⟨⟨hA1, hA2, hS1⟩, ⟨tA, rA8, tLw, rA9⟩, ⟨rA0, tA1, lA1⟩, ⟨rA1, tA2, lA2⟩, ⟨rA2, tA3, lA3⟩, ⟨rA3, tA4, lA4⟩, ⟨rA4, tA5, lA5⟩, ⟨rA5, tA6, lA6⟩, ⟨rA6, tA7, lA7⟩, ⟨rA7, tA8⟩, tS, ⟨rS0, tS1, lS1⟩, ⟨rS1, tS2, lS2⟩, ⟨rS2, tS3, lS3⟩, ⟨rS3, tS4, lS4⟩, ⟨rS4, tS5, lS5⟩, ⟨rS5, tS6, lS6⟩⟩ := id hs
  exact ⟨hS1, tS, ⟨rS0, tS1, lS1⟩, ⟨rS1, tS2, lS2⟩, ⟨rS2, tS3, lS3⟩, ⟨rS3, tS4, lS4⟩, ⟨rS4, tS5, lS5⟩, ⟨rS5, tS6, lS6⟩⟩
theorem SA.u9 {h : gd_H} {c : Nat} (a v : Nat) (hs : SA h c) : SA (wR h (up1 (gR h) a 9 v)) c := by
  unfold SA at hs ⊢
  simp only [gT_wR, gL_wR, gR_wR, up1_nj _ _ (show (0 : Nat) ≠ 9 by decide), up1_nj _ _ (show (1 : Nat) ≠ 9 by decide), up1_nj _ _ (show (2 : Nat) ≠ 9 by decide), up1_nj _ _ (show (3 : Nat) ≠ 9 by decide), up1_nj _ _ (show (4 : Nat) ≠ 9 by decide), up1_nj _ _ (show (5 : Nat) ≠ 9 by decide), up1_nj _ _ (show (6 : Nat) ≠ 9 by decide), up1_nj _ _ (show (7 : Nat) ≠ 9 by decide), up1_nj _ _ (show (8 : Nat) ≠ 9 by decide)]
  exact hs
theorem SC.u9 {h : gd_H} {σ : Nat} {a : Nat} (v : Nat) (ha : a ≤ 1212) (hs : SC h σ) : SC (wR h (up1 (gR h) a 9 v)) σ := by
  have hσ := hs.1
  unfold SC at hs ⊢
  simp only [gT_wR, gL_wR, gR_wR, up1_nc _ _ _ (show σ ≠ a by omega)]
  exact hs
theorem cpy_ne {α : Type} (f : Nat → Nat → α) {a sp b dp n x : Nat} (h : x ≠ b) : cpy f a sp b dp n x = f x := by funext j; simp [cpy, h]
theorem cpy_in {α : Type} (f : Nat → Nat → α) {a b n j : Nat} (h : j < n) : cpy f a 0 b 0 n b j = f a j := by simp [cpy, h]
/-- the ints of a state, copied from another one -/
def asI (I : Nat → Nat → Int32) (a b : Nat) : Nat → Nat → Int32 := cpy (cpy (cpy (cpy (cpy (cpy (up1 (up1 (up1 (up1 I a 10 (I b 10)) a 11 (I b 11)) a 12 (I b 12)) a 13 (I b 13)) (b + 1) 0 (a + 1) 0 6) (b + 2) 0 (a + 2) 0 7) (b + 3) 0 (a + 3) 0 7) (b + 4) 0 (a + 4) 0 7) (b + 5) 0 (a + 5) 0 7) (b + 6) 0 (a + 6) 0 7
theorem sp150 {d : Nat} {h : gd_H} {a b : Nat} (hd : 1 ≤ d) (hsa : SA h a) (hsb : SA h b) (hab : a + 16 ≤ b ∨ b + 16 ≤ a) : run gd_P0 d 150 [.ref a, .ref b] h = some (.inl (some (.ref a)), wR (wI h (asI (gI h) a b)) (up1 (gR h) a 9 (gR h b 9))) := by
  obtain ⟨d, rfl⟩ : ∃ e, d = e + 1 := ⟨d - 1, by omega⟩
  obtain ⟨⟨hA1, hA2⟩, ⟨tA, rA8, tLw⟩, ⟨rA0, tA1, lA1⟩, ⟨rA1, tA2, lA2⟩, ⟨rA2, tA3, lA3⟩, ⟨rA3, tA4, lA4⟩, ⟨rA4, tA5, lA5⟩, ⟨rA5, tA6, lA6⟩, ⟨rA6, tA7, lA7⟩, ⟨rA7, tA8⟩⟩ := id hsa
  obtain ⟨⟨hB1, hB2⟩, ⟨tB, rB8, -⟩, ⟨rB0, tB1, lB1⟩, ⟨rB1, tB2, lB2⟩, ⟨rB2, tB3, lB3⟩, ⟨rB3, tB4, lB4⟩, ⟨rB4, tB5, lB5⟩, ⟨rB5, tB6, lB6⟩, ⟨rB6, tB7, lB7⟩, ⟨rB7, tB8⟩⟩ := id hsb
  rw [r150, s150_0]
  simp (disch := first | omega | assumption) only [tA, rA8, tLw, rA0, tA1, lA1, rA1, tA2, lA2, rA2, tA3, lA3, rA3, tA4, lA4, rA4, tA5, lA5, rA5, tA6, lA6, rA6, tA7, lA7, rA7, tA8, tB, rB8, rB0, tB1, lB1, rB1, tB2, lB2, rB2, tB3, lB3, rB3, tB4, lB4, rB4, tB5, lB5, rB5, tB6, lB6, rB6, tB7, lB7, rB7, tB8, up1_nj, up1_nc, Nat.zero_add, s150_55, s150_70, s150_85, s150_100, s150_115, s150_130, Nat.le_refl, gT_wI, gR_wI, gL_wI, gS_wI, gU_wI, gI_wI, gJ_wI, gI_wJ, gJ_wJ, gR_wJ, gT_wJ, gL_wJ, gS_wJ, gU_wJ, gI_wR, gJ_wR, gR_wR, gT_wR, gL_wR, gS_wR, gU_wR, wI_wI, wJ_wJ, wR_wR, j_s, j_add, j_addL, j_addR, j_mulL, j_mulR, j_cl, j_clL, j_neg, j_negL, j_nn, j_lt, j_le, j_eq, j_ltL, j_ltR, j_leL, j_leR, j_eqL, j_eqR, j_m1, j_m1L, j_m1R, j_eqLL, j_ltLL, j_leLL, n_le0, n_le1, n_lt0, n_lt1, gc_v, gc_n, ↓reduceIte, and_true, true_and, and_self, or_self, or_false, false_or, not_false_eq_true, not_true_eq_false, false_and, and_false, Nat.reduceAdd, Nat.reduceEqDiff, Nat.reduceLeDiff, Nat.reduceLT]
  rfl
theorem asI_fr {I : Nat → Nat → Int32} {a b x : Nat} (hx : x < a ∨ a + 6 < x) : asI I a b x = I x := by
  unfold asI
  rw [cpy_ne _ (by omega), cpy_ne _ (by omega), cpy_ne _ (by omega), cpy_ne _ (by omega), cpy_ne _ (by omega), cpy_ne _ (by omega), up1_nc _ _ _ (by omega), up1_nc _ _ _ (by omega), up1_nc _ _ _ (by omega), up1_nc _ _ _ (by omega)]
theorem asI_XC {I : Nat → Nat → Int32} {a b σ : Nat} {E : gdE} {al : Int32} {r : gdR} (hx : XC I b σ E al r) (hσ : 1223 < σ) (ha : a + 16 ≤ 1212) (hab : a + 16 ≤ b ∨ b + 16 ≤ a) : XC (asI I a b) a σ E al r := by
  obtain ⟨⟨hB, hN⟩, ⟨iB, iN⟩, iG, iK, iR, cH, cF, cO, cA, cC, cW, cT, cG, cM, cL⟩ := id hx
  have e0 : ∀ j, asI I a b a j = up1 (up1 (up1 (up1 I a 10 (I b 10)) a 11 (I b 11)) a 12 (I b 12)) a 13 (I b 13) a j := fun j => by
    unfold asI
    rw [cpy_ne _ (by omega), cpy_ne _ (by omega), cpy_ne _ (by omega), cpy_ne _ (by omega), cpy_ne _ (by omega), cpy_ne _ (by omega)]
  have hu : ∀ x, x ≠ a → up1 (up1 (up1 (up1 I a 10 (I b 10)) a 11 (I b 11)) a 12 (I b 12)) a 13 (I b 13) x = I x := fun x h => by rw [up1_nc _ _ _ h, up1_nc _ _ _ h, up1_nc _ _ _ h, up1_nc _ _ _ h]
  refine ⟨⟨hB, hN⟩, ⟨?_, ?_⟩, ?_, ?_, ?_, ?_, ?_, ?_, ?_, ?_, ?_, ?_, ?_, ?_, ?_⟩
  · rw [asI_fr (by omega)]; exact iB
  · rw [asI_fr (by omega)]; exact iN
  · intro q hq; rw [asI_fr (by omega)]; exact iG q hq
  · intro q hq; rw [asI_fr (by omega)]; exact iK q hq
  · intro q hq; rw [asI_fr (by omega)]; exact iR q hq
  · intro q hq; rw [← cH q hq]; unfold asI; rw [cpy_ne _ (by omega), cpy_ne _ (by omega), cpy_ne _ (by omega), cpy_ne _ (by omega), cpy_in _ hq, cpy_ne _ (by omega), hu _ (by omega)]
  · intro q hq; rw [← cF q hq]; unfold asI; rw [cpy_ne _ (by omega), cpy_ne _ (by omega), cpy_ne _ (by omega), cpy_in _ hq, cpy_ne _ (by omega), cpy_ne _ (by omega), hu _ (by omega)]
  · intro q hq; rw [← cO q hq]; unfold asI; rw [cpy_ne _ (by omega), cpy_ne _ (by omega), cpy_in _ hq, cpy_ne _ (by omega), cpy_ne _ (by omega), cpy_ne _ (by omega), hu _ (by omega)]
  · intro q hq; rw [← cA q hq]; unfold asI; rw [cpy_ne _ (by omega), cpy_in _ hq, cpy_ne _ (by omega), cpy_ne _ (by omega), cpy_ne _ (by omega), cpy_ne _ (by omega), hu _ (by omega)]
  · intro q hq; rw [← cC q hq]; unfold asI; rw [cpy_in _ hq, cpy_ne _ (by omega), cpy_ne _ (by omega), cpy_ne _ (by omega), cpy_ne _ (by omega), cpy_ne _ (by omega), hu _ (by omega)]
  · intro q hq; rw [e0, up1_nj _ _ (by omega), up1_eq]; exact cW q hq
  · intro q hq; rw [← cT q hq]; unfold asI; rw [cpy_ne _ (by omega), cpy_ne _ (by omega), cpy_ne _ (by omega), cpy_ne _ (by omega), cpy_ne _ (by omega), cpy_in _ hq, hu _ (by omega)]
  · rw [e0, up1_nj _ _ (by omega), up1_nj _ _ (by omega), up1_eq]; exact cG
  · rw [e0, up1_nj _ _ (by omega), up1_nj _ _ (by omega), up1_nj _ _ (by omega), up1_eq]; exact cM
  · rw [e0, up1_eq]; exact cL
/-- who is there, in bits -/
def pThere (E : gdE) (r : gdR) : Int32 := pBits (fun p => decide (r (35 + p) = 1)) (eN E)
theorem pBits_cg {c c' : Nat → Bool} {n : Nat} (h : ∀ i, i < n → c i = c' i) : pBits c n = pBits c' n := fo_congr (fun i hi x => by rw [h i hi]) 0
theorem sp149 {d : Nat} {h : gd_H} {a σ : Nat} {E : gdE} {al : Int32} {r : gdR} (hd : 1 ≤ d) (hs : SS h a σ) (hx : XC (gI h) a σ E al r) : run gd_P0 d 149 [.ref a] h = some (.inl (some (.int (pThere E r))), h) := by
  obtain ⟨d, rfl⟩ : ∃ e, d = e + 1 := ⟨d - 1, by omega⟩
  obtain ⟨⟨hA1, hA2, hS1⟩, ⟨tA, rA8, tLw, rA9⟩, ⟨rA0, tA1, lA1⟩, ⟨rA1, tA2, lA2⟩, ⟨rA2, tA3, lA3⟩, ⟨rA3, tA4, lA4⟩, ⟨rA4, tA5, lA5⟩, ⟨rA5, tA6, lA6⟩, ⟨rA6, tA7, lA7⟩, ⟨rA7, tA8⟩, tS, ⟨rS0, tS1, lS1⟩, ⟨rS1, tS2, lS2⟩, ⟨rS2, tS3, lS3⟩, ⟨rS3, tS4, lS4⟩, ⟨rS4, tS5, lS5⟩, ⟨rS5, tS6, lS6⟩⟩ := id hs
  obtain ⟨⟨hB, hN⟩, ⟨iB, iN⟩, iG, iK, iR, cH, cF, cO, cA, cC, cW, cT, cG, cM, cL⟩ := id hx
  rw [r149, s149_0]
  have e : ∀ p, p < eN E → (!bt (gI h a 12) p) = decide (r (35 + p) = 1) := fun p hp => by
    rw [cW p hp]
    cases bt (gI h a 12) p <;> decide
  unfold pThere
  rw [← pBits_cg e, ← b_there _ (by omega)]
  simp (disch := first | omega | assumption) only [tA, rA8, tLw, rA9, rA0, tA1, lA1, rA1, tA2, lA2, rA2, tA3, lA3, rA3, tA4, lA4, rA4, tA5, lA5, rA5, tA6, lA6, rA6, tA7, lA7, rA7, tA8, tS, rS0, tS1, lS1, rS1, tS2, lS2, rS2, tS3, lS3, rS3, tS4, lS4, rS4, tS5, lS5, rS5, tS6, lS6, iB, iN, iG, iK, iR, cH, cF, cO, cA, cC, cT, cG, cM, cL, gT_wI, gR_wI, gL_wI, gS_wI, gU_wI, gI_wI, gJ_wI, gI_wJ, gJ_wJ, gR_wJ, gT_wJ, gL_wJ, gS_wJ, gU_wJ, gI_wR, gJ_wR, gR_wR, gT_wR, gL_wR, gS_wR, gU_wR, wI_wI, wJ_wJ, wR_wR, j_s, j_add, j_addL, j_addR, j_mulL, j_mulR, j_cl, j_clL, j_neg, j_negL, j_nn, j_lt, j_le, j_eq, j_ltL, j_ltR, j_leL, j_leR, j_eqL, j_eqR, j_m1, j_m1L, j_m1R, j_eqLL, j_ltLL, j_leLL, n_le0, n_le1, n_lt0, n_lt1, gc_v, gc_n, ↓reduceIte, and_true, true_and, and_self, or_self, or_false, false_or, not_false_eq_true, not_true_eq_false, false_and, and_false, Nat.reduceAdd, Nat.reduceEqDiff, Nat.reduceLeDiff, Nat.reduceLT]

/-! ===== WHAT A LAW SAYS: terms in the class's cells, codes in the model's; both out of one denotation ===== -/
set_option maxRecDepth 100000
abbrev gdV : Type := (Nat → Int32) → Int32
/-- two by a sign: codes 2 + 3 - 4 * 5 / 6 the lesser 7 the greater 8 what is left -/
def pBin (k : Nat) (u v : Int32) : Int32 := if k = 2 then u + v else if k = 3 then u - v else if k = 4 then u * v else if k = 5 then (if v = 0 then 0 else u / v) else if k = 6 then jmin u v else if k = 7 then jmax u v else (if v = 0 then 0 else u - u / v * v)
/-- a sign's letter -/
def sgn (k : Nat) : Nat := if k = 2 then 43 else if k = 3 then 45 else if k = 4 then 42 else if k = 5 then 47 else if k = 6 then 91 else if k = 7 then 93 else 37
/-- codes of a law, each behind what it is of, and what they say -/
def den : Nat → List (Nat × Nat) → gdV → Prop
  | 0, _, _ => False
  | n + 1, cs, V => (∃ k, k ≤ 999 ∧ cs = [(0, k)] ∧ V = fun _ => Int32.ofNat k) ∨ (∃ w, w < 8 ∧ cs = [(1, w)] ∧ V = fun f => f w) ∨
      ∃ k c1 c2 V1 V2, (2 ≤ k ∧ k ≤ 8) ∧ den n c1 V1 ∧ den n c2 V2 ∧ cs = c1 ++ c2 ++ [(k, 0)] ∧ V = fun f => pBin k (V1 f) (V2 f)
/-- a term in the cells of a heap, and what it says -/
def TV (h : gd_H) : Nat → Nat → gdV → Prop
  | 0, _, _ => False
  | n + 1, t, V => (1264 < t ∧ t < gS h) ∧ ((gT h t = 14 ∧ ∃ k, k ≤ 999 ∧ gI h t 0 = Int32.ofNat k ∧ V = fun _ => Int32.ofNat k) ∨ (gT h t = 15 ∧ ∃ w, w < 8 ∧ gI h t 0 = Int32.ofNat w ∧ V = fun f => f w) ∨
      (gT h t = 13 ∧ ∃ k V1 V2, (2 ≤ k ∧ k ≤ 8) ∧ gI h t 0 = Int32.ofNat (sgn k) ∧ TV h n (gR h t 1) V1 ∧ TV h n (gR h t 2) V2 ∧ V = fun f => pBin k (V1 f) (V2 f)))
theorem den_up : ∀ (n : Nat) (cs : List (Nat × Nat)) (V : gdV), den n cs V → den (n + 1) cs V
  | 0, _, _, h => h.elim
  | n + 1, cs, V, h => by
    rcases h with h | h | ⟨k, c1, c2, V1, V2, h1, h2, h3, h4, h5⟩
    · exact Or.inl h
    · exact Or.inr (Or.inl h)
    · exact Or.inr (Or.inr ⟨k, c1, c2, V1, V2, h1, den_up n _ _ h2, den_up n _ _ h3, h4, h5⟩)
theorem TV_up {h : gd_H} : ∀ (n t : Nat) (V : gdV), TV h n t V → TV h (n + 1) t V
  | 0, _, _, h => h.elim
  | n + 1, t, V, hh => by
    obtain ⟨h0, hh | hh | ⟨ht, k, V1, V2, h1, h2, h3, h4, h5⟩⟩ := hh
    · exact ⟨h0, Or.inl hh⟩
    · exact ⟨h0, Or.inr (Or.inl hh)⟩
    · exact ⟨h0, Or.inr (Or.inr ⟨ht, k, V1, V2, h1, h2, TV_up n _ _ h3, TV_up n _ _ h4, h5⟩)⟩
theorem den_le {n m : Nat} {cs : List (Nat × Nat)} {V : gdV} (hm : n ≤ m) (h : den n cs V) : den m cs V := by
  induction hm with
  | refl => exact h
  | step _ ih => exact den_up _ _ _ ih
theorem TV_le {h : gd_H} {n m t : Nat} {V : gdV} (hm : n ≤ m) (hh : TV h n t V) : TV h m t V := by
  induction hm with
  | refl => exact hh
  | step _ ih => exact TV_up _ _ _ ih
/-- what a heap keeps of terms: cells past 1264 that stood -/
def Kp (h h' : gd_H) : Prop := gS h ≤ gS h' ∧ ∀ b, 1264 < b → b < gS h → gT h' b = gT h b ∧ gL h' b = gL h b ∧ gI h' b = gI h b ∧ gR h' b = gR h b
theorem Kp.rfl {h : gd_H} : Kp h h := ⟨Nat.le_refl _, fun _ _ _ => ⟨Eq.refl _, Eq.refl _, Eq.refl _, Eq.refl _⟩⟩
theorem Kp.trans {h1 h2 h3 : gd_H} (a : Kp h1 h2) (b : Kp h2 h3) : Kp h1 h3 := ⟨Nat.le_trans a.1 b.1, fun c h4 h5 => by
  obtain ⟨x1, x2, x3, x4⟩ := a.2 c h4 h5
  obtain ⟨y1, y2, y3, y4⟩ := b.2 c h4 (Nat.lt_of_lt_of_le h5 a.1)
  exact ⟨y1.trans x1, y2.trans x2, y3.trans x3, y4.trans x4⟩⟩
theorem Kp.wI {h : gd_H} {I : Nat → Nat → Int32} (hI : ∀ b, 1264 < b → I b = gI h b) : Kp h (wI h I) := ⟨Nat.le_refl _, fun b h1 _ => ⟨Eq.refl _, Eq.refl _, hI b h1, Eq.refl _⟩⟩
theorem TV_kp {h h' : gd_H} (kp : Kp h h') : ∀ (n t : Nat) (V : gdV), TV h n t V → TV h' n t V
  | 0, _, _, hh => hh.elim
  | n + 1, t, V, hh => by
    obtain ⟨⟨h0, h00⟩, hh⟩ := hh
    obtain ⟨e1, e2, e3, e4⟩ := kp.2 t h0 h00
    refine ⟨⟨h0, Nat.lt_of_lt_of_le h00 kp.1⟩, ?_⟩
    rw [e1, e3, e4]
    rcases hh with hh | hh | ⟨ht, k, V1, V2, h1, h2, h3, h4, h5⟩
    · exact Or.inl hh
    · exact Or.inr (Or.inl hh)
    · exact Or.inr (Or.inr ⟨ht, k, V1, V2, h1, h2, TV_kp kp n _ _ h3, TV_kp kp n _ _ h4, h5⟩)
/-- a law looks at eight facts -/
theorem den_8 : ∀ (n : Nat) (cs : List (Nat × Nat)) (V : gdV), den n cs V → ∀ f g : Nat → Int32, (∀ j, j < 8 → f j = g j) → V f = V g
  | 0, _, _, h => h.elim
  | n + 1, cs, V, h => by
    intro f g hfg
    rcases h with ⟨k, -, -, rfl⟩ | ⟨w, hw, -, rfl⟩ | ⟨k, c1, c2, V1, V2, h1, h2, h3, h4, rfl⟩
    · rfl
    · exact hfg w hw
    · show pBin k (V1 f) (V2 f) = pBin k (V1 g) (V2 g)
      rw [den_8 n _ _ h2 f g hfg, den_8 n _ _ h3 f g hfg]
theorem jmin_ge {u v : Int32} (h : v ≤ u) : jmin u v = v := by
  unfold jmin
  by_cases c : v < u
  · rw [if_pos c]
  · rw [if_neg c]; exact Int32.le_antisymm (Int32.not_lt.mp c) h
theorem jmin_lt {u v : Int32} (h : ¬ v ≤ u) : jmin u v = u := if_neg (fun z => h (Int32.le_of_lt z))
theorem jmax_ge {u v : Int32} (h : v ≤ u) : jmax u v = u := if_neg (Int32.not_lt.mpr h)
theorem jmax_lt {u v : Int32} (h : ¬ v ≤ u) : jmax u v = v := if_pos (Int32.not_le.mp h)
theorem k28 {k : Nat} (h : 2 ≤ k ∧ k ≤ 8) : k = 2 ∨ k = 3 ∨ k = 4 ∨ k = 5 ∨ k = 6 ∨ k = 7 ∨ k = 8 := by omega
theorem sp227 {d : Nat} {h : gd_H} (hd : 1 ≤ d) {k : Nat} (hk : 2 ≤ k ∧ k ≤ 8) (u v : Int32) : run gd_P0 d 227 [.int (Int32.ofNat k), .int u, .int v] h = some (.inl (some (.int (pBin k u v))), h) := by
  obtain ⟨d, rfl⟩ : ∃ e, d = e + 1 := ⟨d - 1, by omega⟩
  rw [r227]
  by_cases c0 : v = 0
  · rcases k28 hk with rfl | rfl | rfl | rfl | rfl | rfl | rfl
    · simp (disch := first | omega | assumption) only [s227_0, s227_38, s227_60, s227_71, s227_82, s227_90, pBin, c0, gT_wI, gR_wI, gL_wI, gS_wI, gU_wI, gI_wI, gJ_wI, gI_wJ, gJ_wJ, gR_wJ, gT_wJ, gL_wJ, gS_wJ, gU_wJ, gI_wR, gJ_wR, gR_wR, gT_wR, gL_wR, gS_wR, gU_wR, wI_wI, wJ_wJ, wR_wR, j_s, j_add, j_addL, j_addR, j_mulL, j_mulR, j_cl, j_clL, j_neg, j_negL, j_nn, j_lt, j_le, j_eq, j_ltL, j_ltR, j_leL, j_leR, j_eqL, j_eqR, j_m1, j_m1L, j_m1R, j_eqLL, j_ltLL, j_leLL, n_le0, n_le1, n_lt0, n_lt1, gc_v, gc_n, ↓reduceIte, and_true, true_and, and_self, or_self, or_false, false_or, not_false_eq_true, not_true_eq_false, false_and, and_false, Nat.reduceAdd, Nat.reduceEqDiff, Nat.reduceLeDiff, Nat.reduceLT]
    · simp (disch := first | omega | assumption) only [s227_0, s227_38, s227_60, s227_71, s227_82, s227_90, pBin, c0, gT_wI, gR_wI, gL_wI, gS_wI, gU_wI, gI_wI, gJ_wI, gI_wJ, gJ_wJ, gR_wJ, gT_wJ, gL_wJ, gS_wJ, gU_wJ, gI_wR, gJ_wR, gR_wR, gT_wR, gL_wR, gS_wR, gU_wR, wI_wI, wJ_wJ, wR_wR, j_s, j_add, j_addL, j_addR, j_mulL, j_mulR, j_cl, j_clL, j_neg, j_negL, j_nn, j_lt, j_le, j_eq, j_ltL, j_ltR, j_leL, j_leR, j_eqL, j_eqR, j_m1, j_m1L, j_m1R, j_eqLL, j_ltLL, j_leLL, n_le0, n_le1, n_lt0, n_lt1, gc_v, gc_n, ↓reduceIte, and_true, true_and, and_self, or_self, or_false, false_or, not_false_eq_true, not_true_eq_false, false_and, and_false, Nat.reduceAdd, Nat.reduceEqDiff, Nat.reduceLeDiff, Nat.reduceLT]
    · simp (disch := first | omega | assumption) only [s227_0, s227_38, s227_60, s227_71, s227_82, s227_90, pBin, c0, gT_wI, gR_wI, gL_wI, gS_wI, gU_wI, gI_wI, gJ_wI, gI_wJ, gJ_wJ, gR_wJ, gT_wJ, gL_wJ, gS_wJ, gU_wJ, gI_wR, gJ_wR, gR_wR, gT_wR, gL_wR, gS_wR, gU_wR, wI_wI, wJ_wJ, wR_wR, j_s, j_add, j_addL, j_addR, j_mulL, j_mulR, j_cl, j_clL, j_neg, j_negL, j_nn, j_lt, j_le, j_eq, j_ltL, j_ltR, j_leL, j_leR, j_eqL, j_eqR, j_m1, j_m1L, j_m1R, j_eqLL, j_ltLL, j_leLL, n_le0, n_le1, n_lt0, n_lt1, gc_v, gc_n, ↓reduceIte, and_true, true_and, and_self, or_self, or_false, false_or, not_false_eq_true, not_true_eq_false, false_and, and_false, Nat.reduceAdd, Nat.reduceEqDiff, Nat.reduceLeDiff, Nat.reduceLT]
    · simp (disch := first | omega | assumption) only [s227_0, s227_38, s227_60, s227_71, s227_82, s227_90, pBin, c0, gT_wI, gR_wI, gL_wI, gS_wI, gU_wI, gI_wI, gJ_wI, gI_wJ, gJ_wJ, gR_wJ, gT_wJ, gL_wJ, gS_wJ, gU_wJ, gI_wR, gJ_wR, gR_wR, gT_wR, gL_wR, gS_wR, gU_wR, wI_wI, wJ_wJ, wR_wR, j_s, j_add, j_addL, j_addR, j_mulL, j_mulR, j_cl, j_clL, j_neg, j_negL, j_nn, j_lt, j_le, j_eq, j_ltL, j_ltR, j_leL, j_leR, j_eqL, j_eqR, j_m1, j_m1L, j_m1R, j_eqLL, j_ltLL, j_leLL, n_le0, n_le1, n_lt0, n_lt1, gc_v, gc_n, ↓reduceIte, and_true, true_and, and_self, or_self, or_false, false_or, not_false_eq_true, not_true_eq_false, false_and, and_false, Nat.reduceAdd, Nat.reduceEqDiff, Nat.reduceLeDiff, Nat.reduceLT]
    · by_cases c : v ≤ u
      · simp (disch := first | omega | assumption) only [s227_0, s227_38, s227_60, s227_71, s227_82, s227_90, pBin, c, jmin_ge c, gT_wI, gR_wI, gL_wI, gS_wI, gU_wI, gI_wI, gJ_wI, gI_wJ, gJ_wJ, gR_wJ, gT_wJ, gL_wJ, gS_wJ, gU_wJ, gI_wR, gJ_wR, gR_wR, gT_wR, gL_wR, gS_wR, gU_wR, wI_wI, wJ_wJ, wR_wR, j_s, j_add, j_addL, j_addR, j_mulL, j_mulR, j_cl, j_clL, j_neg, j_negL, j_nn, j_lt, j_le, j_eq, j_ltL, j_ltR, j_leL, j_leR, j_eqL, j_eqR, j_m1, j_m1L, j_m1R, j_eqLL, j_ltLL, j_leLL, n_le0, n_le1, n_lt0, n_lt1, gc_v, gc_n, ↓reduceIte, and_true, true_and, and_self, or_self, or_false, false_or, not_false_eq_true, not_true_eq_false, false_and, and_false, Nat.reduceAdd, Nat.reduceEqDiff, Nat.reduceLeDiff, Nat.reduceLT]
      · simp (disch := first | omega | assumption) only [s227_0, s227_38, s227_60, s227_71, s227_82, s227_90, pBin, c, jmin_lt c, gT_wI, gR_wI, gL_wI, gS_wI, gU_wI, gI_wI, gJ_wI, gI_wJ, gJ_wJ, gR_wJ, gT_wJ, gL_wJ, gS_wJ, gU_wJ, gI_wR, gJ_wR, gR_wR, gT_wR, gL_wR, gS_wR, gU_wR, wI_wI, wJ_wJ, wR_wR, j_s, j_add, j_addL, j_addR, j_mulL, j_mulR, j_cl, j_clL, j_neg, j_negL, j_nn, j_lt, j_le, j_eq, j_ltL, j_ltR, j_leL, j_leR, j_eqL, j_eqR, j_m1, j_m1L, j_m1R, j_eqLL, j_ltLL, j_leLL, n_le0, n_le1, n_lt0, n_lt1, gc_v, gc_n, ↓reduceIte, and_true, true_and, and_self, or_self, or_false, false_or, not_false_eq_true, not_true_eq_false, false_and, and_false, Nat.reduceAdd, Nat.reduceEqDiff, Nat.reduceLeDiff, Nat.reduceLT]
    · by_cases c : v ≤ u
      · simp (disch := first | omega | assumption) only [s227_0, s227_38, s227_60, s227_71, s227_82, s227_90, pBin, c, jmax_ge c, gT_wI, gR_wI, gL_wI, gS_wI, gU_wI, gI_wI, gJ_wI, gI_wJ, gJ_wJ, gR_wJ, gT_wJ, gL_wJ, gS_wJ, gU_wJ, gI_wR, gJ_wR, gR_wR, gT_wR, gL_wR, gS_wR, gU_wR, wI_wI, wJ_wJ, wR_wR, j_s, j_add, j_addL, j_addR, j_mulL, j_mulR, j_cl, j_clL, j_neg, j_negL, j_nn, j_lt, j_le, j_eq, j_ltL, j_ltR, j_leL, j_leR, j_eqL, j_eqR, j_m1, j_m1L, j_m1R, j_eqLL, j_ltLL, j_leLL, n_le0, n_le1, n_lt0, n_lt1, gc_v, gc_n, ↓reduceIte, and_true, true_and, and_self, or_self, or_false, false_or, not_false_eq_true, not_true_eq_false, false_and, and_false, Nat.reduceAdd, Nat.reduceEqDiff, Nat.reduceLeDiff, Nat.reduceLT]
      · simp (disch := first | omega | assumption) only [s227_0, s227_38, s227_60, s227_71, s227_82, s227_90, pBin, c, jmax_lt c, gT_wI, gR_wI, gL_wI, gS_wI, gU_wI, gI_wI, gJ_wI, gI_wJ, gJ_wJ, gR_wJ, gT_wJ, gL_wJ, gS_wJ, gU_wJ, gI_wR, gJ_wR, gR_wR, gT_wR, gL_wR, gS_wR, gU_wR, wI_wI, wJ_wJ, wR_wR, j_s, j_add, j_addL, j_addR, j_mulL, j_mulR, j_cl, j_clL, j_neg, j_negL, j_nn, j_lt, j_le, j_eq, j_ltL, j_ltR, j_leL, j_leR, j_eqL, j_eqR, j_m1, j_m1L, j_m1R, j_eqLL, j_ltLL, j_leLL, n_le0, n_le1, n_lt0, n_lt1, gc_v, gc_n, ↓reduceIte, and_true, true_and, and_self, or_self, or_false, false_or, not_false_eq_true, not_true_eq_false, false_and, and_false, Nat.reduceAdd, Nat.reduceEqDiff, Nat.reduceLeDiff, Nat.reduceLT]
    · simp (disch := first | omega | assumption) only [s227_0, s227_38, s227_60, s227_71, s227_82, s227_90, pBin, c0, gT_wI, gR_wI, gL_wI, gS_wI, gU_wI, gI_wI, gJ_wI, gI_wJ, gJ_wJ, gR_wJ, gT_wJ, gL_wJ, gS_wJ, gU_wJ, gI_wR, gJ_wR, gR_wR, gT_wR, gL_wR, gS_wR, gU_wR, wI_wI, wJ_wJ, wR_wR, j_s, j_add, j_addL, j_addR, j_mulL, j_mulR, j_cl, j_clL, j_neg, j_negL, j_nn, j_lt, j_le, j_eq, j_ltL, j_ltR, j_leL, j_leR, j_eqL, j_eqR, j_m1, j_m1L, j_m1R, j_eqLL, j_ltLL, j_leLL, n_le0, n_le1, n_lt0, n_lt1, gc_v, gc_n, ↓reduceIte, and_true, true_and, and_self, or_self, or_false, false_or, not_false_eq_true, not_true_eq_false, false_and, and_false, Nat.reduceAdd, Nat.reduceEqDiff, Nat.reduceLeDiff, Nat.reduceLT]
  · rcases k28 hk with rfl | rfl | rfl | rfl | rfl | rfl | rfl
    · simp (disch := first | omega | assumption) only [s227_0, s227_38, s227_60, s227_71, s227_82, s227_90, pBin, c0, gT_wI, gR_wI, gL_wI, gS_wI, gU_wI, gI_wI, gJ_wI, gI_wJ, gJ_wJ, gR_wJ, gT_wJ, gL_wJ, gS_wJ, gU_wJ, gI_wR, gJ_wR, gR_wR, gT_wR, gL_wR, gS_wR, gU_wR, wI_wI, wJ_wJ, wR_wR, j_s, j_add, j_addL, j_addR, j_mulL, j_mulR, j_cl, j_clL, j_neg, j_negL, j_nn, j_lt, j_le, j_eq, j_ltL, j_ltR, j_leL, j_leR, j_eqL, j_eqR, j_m1, j_m1L, j_m1R, j_eqLL, j_ltLL, j_leLL, n_le0, n_le1, n_lt0, n_lt1, gc_v, gc_n, ↓reduceIte, and_true, true_and, and_self, or_self, or_false, false_or, not_false_eq_true, not_true_eq_false, false_and, and_false, Nat.reduceAdd, Nat.reduceEqDiff, Nat.reduceLeDiff, Nat.reduceLT]
    · simp (disch := first | omega | assumption) only [s227_0, s227_38, s227_60, s227_71, s227_82, s227_90, pBin, c0, gT_wI, gR_wI, gL_wI, gS_wI, gU_wI, gI_wI, gJ_wI, gI_wJ, gJ_wJ, gR_wJ, gT_wJ, gL_wJ, gS_wJ, gU_wJ, gI_wR, gJ_wR, gR_wR, gT_wR, gL_wR, gS_wR, gU_wR, wI_wI, wJ_wJ, wR_wR, j_s, j_add, j_addL, j_addR, j_mulL, j_mulR, j_cl, j_clL, j_neg, j_negL, j_nn, j_lt, j_le, j_eq, j_ltL, j_ltR, j_leL, j_leR, j_eqL, j_eqR, j_m1, j_m1L, j_m1R, j_eqLL, j_ltLL, j_leLL, n_le0, n_le1, n_lt0, n_lt1, gc_v, gc_n, ↓reduceIte, and_true, true_and, and_self, or_self, or_false, false_or, not_false_eq_true, not_true_eq_false, false_and, and_false, Nat.reduceAdd, Nat.reduceEqDiff, Nat.reduceLeDiff, Nat.reduceLT]
    · simp (disch := first | omega | assumption) only [s227_0, s227_38, s227_60, s227_71, s227_82, s227_90, pBin, c0, gT_wI, gR_wI, gL_wI, gS_wI, gU_wI, gI_wI, gJ_wI, gI_wJ, gJ_wJ, gR_wJ, gT_wJ, gL_wJ, gS_wJ, gU_wJ, gI_wR, gJ_wR, gR_wR, gT_wR, gL_wR, gS_wR, gU_wR, wI_wI, wJ_wJ, wR_wR, j_s, j_add, j_addL, j_addR, j_mulL, j_mulR, j_cl, j_clL, j_neg, j_negL, j_nn, j_lt, j_le, j_eq, j_ltL, j_ltR, j_leL, j_leR, j_eqL, j_eqR, j_m1, j_m1L, j_m1R, j_eqLL, j_ltLL, j_leLL, n_le0, n_le1, n_lt0, n_lt1, gc_v, gc_n, ↓reduceIte, and_true, true_and, and_self, or_self, or_false, false_or, not_false_eq_true, not_true_eq_false, false_and, and_false, Nat.reduceAdd, Nat.reduceEqDiff, Nat.reduceLeDiff, Nat.reduceLT]
    · simp (disch := first | omega | assumption) only [s227_0, s227_38, s227_60, s227_71, s227_82, s227_90, pBin, c0, gT_wI, gR_wI, gL_wI, gS_wI, gU_wI, gI_wI, gJ_wI, gI_wJ, gJ_wJ, gR_wJ, gT_wJ, gL_wJ, gS_wJ, gU_wJ, gI_wR, gJ_wR, gR_wR, gT_wR, gL_wR, gS_wR, gU_wR, wI_wI, wJ_wJ, wR_wR, j_s, j_add, j_addL, j_addR, j_mulL, j_mulR, j_cl, j_clL, j_neg, j_negL, j_nn, j_lt, j_le, j_eq, j_ltL, j_ltR, j_leL, j_leR, j_eqL, j_eqR, j_m1, j_m1L, j_m1R, j_eqLL, j_ltLL, j_leLL, n_le0, n_le1, n_lt0, n_lt1, gc_v, gc_n, ↓reduceIte, and_true, true_and, and_self, or_self, or_false, false_or, not_false_eq_true, not_true_eq_false, false_and, and_false, Nat.reduceAdd, Nat.reduceEqDiff, Nat.reduceLeDiff, Nat.reduceLT]
    · by_cases c : v ≤ u
      · simp (disch := first | omega | assumption) only [s227_0, s227_38, s227_60, s227_71, s227_82, s227_90, pBin, c, jmin_ge c, gT_wI, gR_wI, gL_wI, gS_wI, gU_wI, gI_wI, gJ_wI, gI_wJ, gJ_wJ, gR_wJ, gT_wJ, gL_wJ, gS_wJ, gU_wJ, gI_wR, gJ_wR, gR_wR, gT_wR, gL_wR, gS_wR, gU_wR, wI_wI, wJ_wJ, wR_wR, j_s, j_add, j_addL, j_addR, j_mulL, j_mulR, j_cl, j_clL, j_neg, j_negL, j_nn, j_lt, j_le, j_eq, j_ltL, j_ltR, j_leL, j_leR, j_eqL, j_eqR, j_m1, j_m1L, j_m1R, j_eqLL, j_ltLL, j_leLL, n_le0, n_le1, n_lt0, n_lt1, gc_v, gc_n, ↓reduceIte, and_true, true_and, and_self, or_self, or_false, false_or, not_false_eq_true, not_true_eq_false, false_and, and_false, Nat.reduceAdd, Nat.reduceEqDiff, Nat.reduceLeDiff, Nat.reduceLT]
      · simp (disch := first | omega | assumption) only [s227_0, s227_38, s227_60, s227_71, s227_82, s227_90, pBin, c, jmin_lt c, gT_wI, gR_wI, gL_wI, gS_wI, gU_wI, gI_wI, gJ_wI, gI_wJ, gJ_wJ, gR_wJ, gT_wJ, gL_wJ, gS_wJ, gU_wJ, gI_wR, gJ_wR, gR_wR, gT_wR, gL_wR, gS_wR, gU_wR, wI_wI, wJ_wJ, wR_wR, j_s, j_add, j_addL, j_addR, j_mulL, j_mulR, j_cl, j_clL, j_neg, j_negL, j_nn, j_lt, j_le, j_eq, j_ltL, j_ltR, j_leL, j_leR, j_eqL, j_eqR, j_m1, j_m1L, j_m1R, j_eqLL, j_ltLL, j_leLL, n_le0, n_le1, n_lt0, n_lt1, gc_v, gc_n, ↓reduceIte, and_true, true_and, and_self, or_self, or_false, false_or, not_false_eq_true, not_true_eq_false, false_and, and_false, Nat.reduceAdd, Nat.reduceEqDiff, Nat.reduceLeDiff, Nat.reduceLT]
    · by_cases c : v ≤ u
      · simp (disch := first | omega | assumption) only [s227_0, s227_38, s227_60, s227_71, s227_82, s227_90, pBin, c, jmax_ge c, gT_wI, gR_wI, gL_wI, gS_wI, gU_wI, gI_wI, gJ_wI, gI_wJ, gJ_wJ, gR_wJ, gT_wJ, gL_wJ, gS_wJ, gU_wJ, gI_wR, gJ_wR, gR_wR, gT_wR, gL_wR, gS_wR, gU_wR, wI_wI, wJ_wJ, wR_wR, j_s, j_add, j_addL, j_addR, j_mulL, j_mulR, j_cl, j_clL, j_neg, j_negL, j_nn, j_lt, j_le, j_eq, j_ltL, j_ltR, j_leL, j_leR, j_eqL, j_eqR, j_m1, j_m1L, j_m1R, j_eqLL, j_ltLL, j_leLL, n_le0, n_le1, n_lt0, n_lt1, gc_v, gc_n, ↓reduceIte, and_true, true_and, and_self, or_self, or_false, false_or, not_false_eq_true, not_true_eq_false, false_and, and_false, Nat.reduceAdd, Nat.reduceEqDiff, Nat.reduceLeDiff, Nat.reduceLT]
      · simp (disch := first | omega | assumption) only [s227_0, s227_38, s227_60, s227_71, s227_82, s227_90, pBin, c, jmax_lt c, gT_wI, gR_wI, gL_wI, gS_wI, gU_wI, gI_wI, gJ_wI, gI_wJ, gJ_wJ, gR_wJ, gT_wJ, gL_wJ, gS_wJ, gU_wJ, gI_wR, gJ_wR, gR_wR, gT_wR, gL_wR, gS_wR, gU_wR, wI_wI, wJ_wJ, wR_wR, j_s, j_add, j_addL, j_addR, j_mulL, j_mulR, j_cl, j_clL, j_neg, j_negL, j_nn, j_lt, j_le, j_eq, j_ltL, j_ltR, j_leL, j_leR, j_eqL, j_eqR, j_m1, j_m1L, j_m1R, j_eqLL, j_ltLL, j_leLL, n_le0, n_le1, n_lt0, n_lt1, gc_v, gc_n, ↓reduceIte, and_true, true_and, and_self, or_self, or_false, false_or, not_false_eq_true, not_true_eq_false, false_and, and_false, Nat.reduceAdd, Nat.reduceEqDiff, Nat.reduceLeDiff, Nat.reduceLT]
    · simp (disch := first | omega | assumption) only [s227_0, s227_38, s227_60, s227_71, s227_82, s227_90, pBin, c0, gT_wI, gR_wI, gL_wI, gS_wI, gU_wI, gI_wI, gJ_wI, gI_wJ, gJ_wJ, gR_wJ, gT_wJ, gL_wJ, gS_wJ, gU_wJ, gI_wR, gJ_wR, gR_wR, gT_wR, gL_wR, gS_wR, gU_wR, wI_wI, wJ_wJ, wR_wR, j_s, j_add, j_addL, j_addR, j_mulL, j_mulR, j_cl, j_clL, j_neg, j_negL, j_nn, j_lt, j_le, j_eq, j_ltL, j_ltR, j_leL, j_leR, j_eqL, j_eqR, j_m1, j_m1L, j_m1R, j_eqLL, j_ltLL, j_leLL, n_le0, n_le1, n_lt0, n_lt1, gc_v, gc_n, ↓reduceIte, and_true, true_and, and_self, or_self, or_false, false_or, not_false_eq_true, not_true_eq_false, false_and, and_false, Nat.reduceAdd, Nat.reduceEqDiff, Nat.reduceLeDiff, Nat.reduceLT]
theorem sp170 {d : Nat} {h : gd_H} (hd : 1 ≤ d) {s : Nat} (ht : gT h s = 5) {j : Nat} (hj : j < 8) : run gd_P0 d 170 [.ref s, .int (Int32.ofNat j)] h = some (.inl (some (.int (gI h s j))), h) := by
  obtain ⟨d, rfl⟩ : ∃ e, d = e + 1 := ⟨d - 1, by omega⟩
  rw [r170, s170_0]
  have : j = 0 ∨ j = 1 ∨ j = 2 ∨ j = 3 ∨ j = 4 ∨ j = 5 ∨ j = 6 ∨ j = 7 := by omega
  rcases this with rfl | rfl | rfl | rfl | rfl | rfl | rfl | rfl
  all_goals simp (disch := first | omega | assumption) only [ht, gT_wI, gR_wI, gL_wI, gS_wI, gU_wI, gI_wI, gJ_wI, gI_wJ, gJ_wJ, gR_wJ, gT_wJ, gL_wJ, gS_wJ, gU_wJ, gI_wR, gJ_wR, gR_wR, gT_wR, gL_wR, gS_wR, gU_wR, wI_wI, wJ_wJ, wR_wR, j_s, j_add, j_addL, j_addR, j_mulL, j_mulR, j_cl, j_clL, j_neg, j_negL, j_nn, j_lt, j_le, j_eq, j_ltL, j_ltR, j_leL, j_leR, j_eqL, j_eqR, j_m1, j_m1L, j_m1R, j_eqLL, j_ltLL, j_leLL, n_le0, n_le1, n_lt0, n_lt1, gc_v, gc_n, ↓reduceIte, and_true, true_and, and_self, or_self, or_false, false_or, not_false_eq_true, not_true_eq_false, false_and, and_false, Nat.reduceAdd, Nat.reduceEqDiff, Nat.reduceLeDiff, Nat.reduceLT]
/-- a term's method answers what it says -/
theorem tv_on {h : gd_H} {I : Nat → Nat → Int32} (hI : ∀ b, 1224 ≤ b → I b = gI h b) {s : Nat} (hs : gT h s = 5) : ∀ (n t : Nat) (V : gdV) (d : Nat), TV h n t V → n + 1 ≤ d → ∃ k9, slk gd_tkF (gT h t) = some k9 ∧ run gd_P0 d k9 [.ref t, .ref s] (wI h I) = some (.inl (some (.int (V (I s)))), wI h I)
  | 0, _, _, _, hh, _ => hh.elim
  | n + 1, t, V, d, hh, hd => by
    obtain ⟨d, rfl⟩ : ∃ e, d = e + 1 := ⟨d - 1, by omega⟩
    obtain ⟨⟨h0, -⟩, ⟨ht, k, hk, e, rfl⟩ | ⟨ht, k, hk, e, rfl⟩ | ⟨ht, k, V1, V2, hk, e, t1, t2, rfl⟩⟩ := hh
    · refine ⟨120, by rw [ht]; rfl, ?_⟩
      rw [r120, s120_0]
      have e2 : I t 0 = Int32.ofNat k := by rw [hI t (by omega)]; exact e
      simp (disch := first | omega | assumption) only [ht, e2, gT_wI, gR_wI, gL_wI, gS_wI, gU_wI, gI_wI, gJ_wI, gI_wJ, gJ_wJ, gR_wJ, gT_wJ, gL_wJ, gS_wJ, gU_wJ, gI_wR, gJ_wR, gR_wR, gT_wR, gL_wR, gS_wR, gU_wR, wI_wI, wJ_wJ, wR_wR, j_s, j_add, j_addL, j_addR, j_mulL, j_mulR, j_cl, j_clL, j_neg, j_negL, j_nn, j_lt, j_le, j_eq, j_ltL, j_ltR, j_leL, j_leR, j_eqL, j_eqR, j_m1, j_m1L, j_m1R, j_eqLL, j_ltLL, j_leLL, n_le0, n_le1, n_lt0, n_lt1, gc_v, gc_n, ↓reduceIte, and_true, true_and, and_self, or_self, or_false, false_or, not_false_eq_true, not_true_eq_false, false_and, and_false, Nat.reduceAdd, Nat.reduceEqDiff, Nat.reduceLeDiff, Nat.reduceLT]
    · refine ⟨122, by rw [ht]; rfl, ?_⟩
      rw [r122, s122_0]
      have e2 : I t 0 = Int32.ofNat k := by rw [hI t (by omega)]; exact e
      simp (disch := first | omega | assumption) only [ht, hs, e2, sp170 (d := d) (by omega) (show gT (wI h I) s = 5 from hs) hk, s122_8, gT_wI, gR_wI, gL_wI, gS_wI, gU_wI, gI_wI, gJ_wI, gI_wJ, gJ_wJ, gR_wJ, gT_wJ, gL_wJ, gS_wJ, gU_wJ, gI_wR, gJ_wR, gR_wR, gT_wR, gL_wR, gS_wR, gU_wR, wI_wI, wJ_wJ, wR_wR, j_s, j_add, j_addL, j_addR, j_mulL, j_mulR, j_cl, j_clL, j_neg, j_negL, j_nn, j_lt, j_le, j_eq, j_ltL, j_ltR, j_leL, j_leR, j_eqL, j_eqR, j_m1, j_m1L, j_m1R, j_eqLL, j_ltLL, j_leLL, n_le0, n_le1, n_lt0, n_lt1, gc_v, gc_n, ↓reduceIte, and_true, true_and, and_self, or_self, or_false, false_or, not_false_eq_true, not_true_eq_false, false_and, and_false, Nat.reduceAdd, Nat.reduceEqDiff, Nat.reduceLeDiff, Nat.reduceLT]
    · refine ⟨118, by rw [ht]; rfl, ?_⟩
      obtain ⟨k1, a1, b1⟩ := tv_on hI hs n _ _ d t1 (by omega)
      obtain ⟨k2, a2, b2⟩ := tv_on hI hs n _ _ d t2 (by omega)
      have e2 : I t 0 = Int32.ofNat (sgn k) := by rw [hI t (by omega)]; exact e
      rw [r118, s118_0]
      simp only [gT_wI, gR_wI, ht, a1, ↓reduceIte]
      refine Eq.trans (congrArg (gc gd_P0 d 118 5 10 _ _) b1) ?_
      rw [gc_v, s118_10]
      simp only [gT_wI, gR_wI, ht, a2, ↓reduceIte]
      refine Eq.trans (congrArg (gc gd_P0 d 118 16 21 _ _) b2) ?_
      rw [gc_v, s118_21]
      generalize V1 (I s) = u
      generalize V2 (I s) = v
      by_cases c0 : v = 0
      · rcases k28 hk with rfl | rfl | rfl | rfl | rfl | rfl | rfl
        all_goals simp (disch := first | omega | assumption) only [ht, e2, sgn, pBin, c0, s118_107, s118_119, s118_125, s118_131, gT_wI, gR_wI, gL_wI, gS_wI, gU_wI, gI_wI, gJ_wI, gI_wJ, gJ_wJ, gR_wJ, gT_wJ, gL_wJ, gS_wJ, gU_wJ, gI_wR, gJ_wR, gR_wR, gT_wR, gL_wR, gS_wR, gU_wR, wI_wI, wJ_wJ, wR_wR, j_s, j_add, j_addL, j_addR, j_mulL, j_mulR, j_cl, j_clL, j_neg, j_negL, j_nn, j_lt, j_le, j_eq, j_ltL, j_ltR, j_leL, j_leR, j_eqL, j_eqR, j_m1, j_m1L, j_m1R, j_eqLL, j_ltLL, j_leLL, n_le0, n_le1, n_lt0, n_lt1, gc_v, gc_n, ↓reduceIte, and_true, true_and, and_self, or_self, or_false, false_or, not_false_eq_true, not_true_eq_false, false_and, and_false, Nat.reduceAdd, Nat.reduceEqDiff, Nat.reduceLeDiff, Nat.reduceLT]
        all_goals rfl
      · rcases k28 hk with rfl | rfl | rfl | rfl | rfl | rfl | rfl
        all_goals simp (disch := first | omega | assumption) only [ht, e2, sgn, pBin, c0, s118_107, s118_119, s118_125, s118_131, gT_wI, gR_wI, gL_wI, gS_wI, gU_wI, gI_wI, gJ_wI, gI_wJ, gJ_wJ, gR_wJ, gT_wJ, gL_wJ, gS_wJ, gU_wJ, gI_wR, gJ_wR, gR_wR, gT_wR, gL_wR, gS_wR, gU_wR, wI_wI, wJ_wJ, wR_wR, j_s, j_add, j_addL, j_addR, j_mulL, j_mulR, j_cl, j_clL, j_neg, j_negL, j_nn, j_lt, j_le, j_eq, j_ltL, j_ltR, j_leL, j_leR, j_eqL, j_eqR, j_m1, j_m1L, j_m1R, j_eqLL, j_ltLL, j_leLL, n_le0, n_le1, n_lt0, n_lt1, gc_v, gc_n, ↓reduceIte, and_true, true_and, and_self, or_self, or_false, false_or, not_false_eq_true, not_true_eq_false, false_and, and_false, Nat.reduceAdd, Nat.reduceEqDiff, Nat.reduceLeDiff, Nat.reduceLT]
        all_goals rfl
/-- the class's law, and what it says -/
def LWx (h : gd_H) (lw : gdV) : Prop := gT h 98 = 2 ∧ ((gR h 98 0 = 0 ∧ lw = fun f => 1 + f 0 / 3) ∨ ∃ n, n ≤ 160 ∧ TV h n (gR h 98 0) lw)
theorem LWx.lf {h : gd_H} {lw : gdV} (hl : LWx h lw) : LWf h lw := by
  intro d s I hd hI hs
  obtain ⟨t98, hl⟩ := hl
  obtain ⟨d, rfl⟩ : ∃ e, d = e + 1 := ⟨d - 1, by omega⟩
  rw [r135, s135_0]
  rcases hl with ⟨e0, rfl⟩ | ⟨n, hn, hT⟩
  · simp (disch := first | omega | assumption) only [t98, e0, hs, s135_31, s135_34, s135_37, gT_wI, gR_wI, gL_wI, gS_wI, gU_wI, gI_wI, gJ_wI, gI_wJ, gJ_wJ, gR_wJ, gT_wJ, gL_wJ, gS_wJ, gU_wJ, gI_wR, gJ_wR, gR_wR, gT_wR, gL_wR, gS_wR, gU_wR, wI_wI, wJ_wJ, wR_wR, j_s, j_add, j_addL, j_addR, j_mulL, j_mulR, j_cl, j_clL, j_neg, j_negL, j_nn, j_lt, j_le, j_eq, j_ltL, j_ltR, j_leL, j_leR, j_eqL, j_eqR, j_m1, j_m1L, j_m1R, j_eqLL, j_ltLL, j_leLL, n_le0, n_le1, n_lt0, n_lt1, gc_v, gc_n, ↓reduceIte, and_true, true_and, and_self, or_self, or_false, false_or, not_false_eq_true, not_true_eq_false, false_and, and_false, Nat.reduceAdd, Nat.reduceEqDiff, Nat.reduceLeDiff, Nat.reduceLT]
    rfl
  · obtain ⟨k9, a1, b1⟩ := tv_on hI hs n _ _ d hT (by omega)
    have h4 : 1264 < gR h 98 0 := by
      cases n with
      | zero => exact hT.elim
      | succ n => exact hT.1.1
    have c0 : ¬ gR h 98 0 = 0 := by omega
    have c1 : 4 ≤ gR h 98 0 := by omega
    simp only [gT_wI, gR_wI, t98, c0, c1, a1, ↓reduceIte]
    refine Eq.trans (congrArg (gc gd_P0 d 135 26 31 _ _) b1) ?_
    rw [gc_v, s135_31, s135_34, s135_37]
    rfl
/-- the model's codes, and what they say -/
def MLx (I : Nat → Nat → Int32) (lw : gdV) : Prop := ∃ cs : List (Nat × Nat), cs.length ≤ 150 ∧ I 1231 28 = Int32.ofNat cs.length ∧ (∀ k x, cs[k]? = some x → I 1244 k = Int32.ofNat x.1 ∧ I 1245 k = Int32.ofNat x.2) ∧ ((cs = [] ∧ lw = fun f => 1 + f 0 / 3) ∨ ∃ n, den n cs lw)
theorem m_ev {h : gd_H} (hm : MS h) (d C : Nat) (hC : C ≤ 150) : ∀ (n : Nat) (cs : List (Nat × Nat)) (V : gdV), den n cs V → ∀ (i top : Nat) (I : Nat → Nat → Int32), i + cs.length ≤ C → top + cs.length ≤ 150 → I 1231 28 = Int32.ofNat C → (∀ k x, cs[k]? = some x → I 1244 (i + k) = Int32.ofNat x.1 ∧ I 1245 (i + k) = Int32.ofNat x.2) →
    ∃ I' : Nat → Nat → Int32, go gd_P0 (d + 1) 226 4 [.ref 1231, .int (Int32.ofNat top), .int (Int32.ofNat i), .null] [] (wI h I) = go gd_P0 (d + 1) 226 4 [.ref 1231, .int (Int32.ofNat (top + 1)), .int (Int32.ofNat (i + cs.length)), .null] [] (wI h I') ∧ (∀ b, b ≠ 1246 → I' b = I b) ∧ (∀ j, j < top → I' 1246 j = I 1246 j) ∧ I' 1246 top = V (I 1247)
  | 0, _, _, hh => hh.elim
  | n + 1, cs, V, hh => by
    intro i top I hi ht hc hcs
    rcases hh with ⟨k, hk, rfl, rfl⟩ | ⟨k, hk, rfl, rfl⟩ | ⟨k, c1, c2, V1, V2, hk, d1, d2, rfl, rfl⟩
    · obtain ⟨e1, e2⟩ := hcs 0 _ rfl
      simp only [List.length_cons, List.length_nil, Nat.zero_add] at hi ht ⊢
      rw [Nat.add_zero] at e1 e2
      refine ⟨up1 I 1246 top (Int32.ofNat k), ?_, fun b hb => up1_nc _ _ _ hb, fun j hj => up1_nj _ _ (by omega), up1_eq _ _ _ _⟩
      rw [s226_4]
      simp (disch := first | omega | assumption) only [hm.t, m_r24 hm, m_t24 hm, m_l24 hm, m_r25 hm, m_t25 hm, m_l25 hm, m_r26 hm, m_t26 hm, m_l26 hm, m_r29 hm, m_t29 hm, m_l29 hm, hc, e1, e2, s226_53, s226_89, gT_wI, gR_wI, gL_wI, gS_wI, gU_wI, gI_wI, gJ_wI, gI_wJ, gJ_wJ, gR_wJ, gT_wJ, gL_wJ, gS_wJ, gU_wJ, gI_wR, gJ_wR, gR_wR, gT_wR, gL_wR, gS_wR, gU_wR, wI_wI, wJ_wJ, wR_wR, j_s, j_add, j_addL, j_addR, j_mulL, j_mulR, j_cl, j_clL, j_neg, j_negL, j_nn, j_lt, j_le, j_eq, j_ltL, j_ltR, j_leL, j_leR, j_eqL, j_eqR, j_m1, j_m1L, j_m1R, j_eqLL, j_ltLL, j_leLL, n_le0, n_le1, n_lt0, n_lt1, gc_v, gc_n, ↓reduceIte, and_true, true_and, and_self, or_self, or_false, false_or, not_false_eq_true, not_true_eq_false, false_and, and_false, Nat.reduceAdd, Nat.reduceEqDiff, Nat.reduceLeDiff, Nat.reduceLT]
    · obtain ⟨e1, e2⟩ := hcs 0 _ rfl
      simp only [List.length_cons, List.length_nil, Nat.zero_add] at hi ht ⊢
      rw [Nat.add_zero] at e1 e2
      refine ⟨up1 I 1246 top (I 1247 k), ?_, fun b hb => up1_nc _ _ _ hb, fun j hj => up1_nj _ _ (by omega), up1_eq _ _ _ _⟩
      rw [s226_4]
      simp (disch := first | omega | assumption) only [hm.t, m_r24 hm, m_t24 hm, m_l24 hm, m_r25 hm, m_t25 hm, m_l25 hm, m_r26 hm, m_t26 hm, m_l26 hm, m_r29 hm, m_t29 hm, m_l29 hm, hc, e1, e2, s226_53, s226_89, gT_wI, gR_wI, gL_wI, gS_wI, gU_wI, gI_wI, gJ_wI, gI_wJ, gJ_wJ, gR_wJ, gT_wJ, gL_wJ, gS_wJ, gU_wJ, gI_wR, gJ_wR, gR_wR, gT_wR, gL_wR, gS_wR, gU_wR, wI_wI, wJ_wJ, wR_wR, j_s, j_add, j_addL, j_addR, j_mulL, j_mulR, j_cl, j_clL, j_neg, j_negL, j_nn, j_lt, j_le, j_eq, j_ltL, j_ltR, j_leL, j_leR, j_eqL, j_eqR, j_m1, j_m1L, j_m1R, j_eqLL, j_ltLL, j_leLL, n_le0, n_le1, n_lt0, n_lt1, gc_v, gc_n, ↓reduceIte, and_true, true_and, and_self, or_self, or_false, false_or, not_false_eq_true, not_true_eq_false, false_and, and_false, Nat.reduceAdd, Nat.reduceEqDiff, Nat.reduceLeDiff, Nat.reduceLT]
    · have hln : (c1 ++ c2 ++ [(k, 0)]).length = c1.length + c2.length + 1 := by simp [Nat.add_assoc]
      have p1 : ∀ (n : Nat) (cs : List (Nat × Nat)) (V : gdV), den n cs V → 1 ≤ cs.length := fun n cs V h => by
        cases n with
        | zero => exact h.elim
        | succ n => rcases h with ⟨k, -, rfl, -⟩ | ⟨k, -, rfl, -⟩ | ⟨k, c1, c2, V1, V2, -, -, -, rfl, -⟩ <;> simp <;> omega
      have l2 := p1 n c2 V2 d2
      rw [hln] at hi ht ⊢
      obtain ⟨I1, g1, f1, s1, v1⟩ := m_ev hm d C hC n c1 V1 d1 i top I (by omega) (by omega) hc (fun j x hj => hcs j x (by
        rw [List.append_assoc, List.getElem?_append_left (by obtain ⟨z, -⟩ := List.getElem?_eq_some_iff.mp hj; exact z)]; exact hj))
      obtain ⟨I2, g2, f2, s2, v2⟩ := m_ev hm d C hC n c2 V2 d2 (i + c1.length) (top + 1) I1 (by omega) (by omega) (by rw [f1 _ (by omega)]; exact hc) (fun j x hj => by
        rw [f1 _ (by omega), f1 _ (by omega), Nat.add_assoc]
        exact hcs (c1.length + j) x (by
          rw [List.append_assoc, List.getElem?_append_right (by omega), Nat.add_sub_cancel_left, List.getElem?_append_left (by obtain ⟨z, -⟩ := List.getElem?_eq_some_iff.mp hj; exact z)]; exact hj))
      obtain ⟨e1, -⟩ := hcs (c1.length + c2.length) (k, 0) (by
        rw [List.getElem?_append_right (by simp)]; simp)
      have e1' : I2 1244 (i + c1.length + c2.length) = Int32.ofNat k := by rw [f2 _ (by omega), f1 _ (by omega), Nat.add_assoc]; exact e1
      have hc2 : I2 1231 28 = Int32.ofNat C := by rw [f2 _ (by omega), f1 _ (by omega)]; exact hc
      have w1 : I2 1246 top = V1 (I 1247) := (s2 top (by omega)).trans v1
      have w2 : I2 1246 (top + 1) = V2 (I 1247) := by rw [v2, f1 _ (by omega)]
      refine ⟨up1 I2 1246 top (pBin k (V1 (I 1247)) (V2 (I 1247))), ?_, fun b hb => by rw [up1_nc _ _ _ hb, f2 b hb, f1 b hb], fun j hj => by rw [up1_nj _ _ (by omega), s2 j (by omega), s1 j hj], up1_eq _ _ _ _⟩
      refine (g1.trans g2).trans ?_
      rw [s226_4]
      simp (disch := first | omega | assumption) only [hm.t, m_r24 hm, m_t24 hm, m_l24 hm, m_r25 hm, m_t25 hm, m_l25 hm, m_r26 hm, m_t26 hm, m_l26 hm, m_r29 hm, m_t29 hm, m_l29 hm, hc2, e1', w1, w2, j_dec, j_subR, Nat.add_sub_cancel, sp227 (d := d + 1) (by omega) hk, s226_88, s226_89, gT_wI, gR_wI, gL_wI, gS_wI, gU_wI, gI_wI, gJ_wI, gI_wJ, gJ_wJ, gR_wJ, gT_wJ, gL_wJ, gS_wJ, gU_wJ, gI_wR, gJ_wR, gR_wR, gT_wR, gL_wR, gS_wR, gU_wR, wI_wI, wJ_wJ, wR_wR, j_s, j_add, j_addL, j_addR, j_mulL, j_mulR, j_cl, j_clL, j_neg, j_negL, j_nn, j_lt, j_le, j_eq, j_ltL, j_ltR, j_leL, j_leR, j_eqL, j_eqR, j_m1, j_m1L, j_m1R, j_eqLL, j_ltLL, j_leLL, n_le0, n_le1, n_lt0, n_lt1, gc_v, gc_n, ↓reduceIte, and_true, true_and, and_self, or_self, or_false, false_or, not_false_eq_true, not_true_eq_false, false_and, and_false, Nat.reduceAdd, Nat.reduceEqDiff, Nat.reduceLeDiff, Nat.reduceLT]
      rw [show i + c1.length + c2.length + 1 = i + (c1.length + c2.length + 1) by omega]
theorem LWm_of {h : gd_H} (hm : MS h) {lw : gdV} (hl : MLx (gI h) lw) : LWm h lw := by
  intro d I hd i1 i2 i3
  obtain ⟨cs, hC, hc, hcs, hl⟩ := hl
  obtain ⟨d, rfl⟩ : ∃ e, d = e + 3 := ⟨d - 3, by omega⟩
  have fin : ∀ (v : Int32) (I' : Nat → Nat → Int32), go gd_P0 (d + 2) 225 24 [.ref 1231, .null] [.int v] (wI h I') = some (.inl (some (.int (pCl v))), wI h I') := fun v I' => by
    rw [s225_24]
    unfold pCl jmin jmax
    by_cases c1 : 0 ≤ v
    · by_cases c2 : v ≤ 9
      · rw [if_pos c1, if_pos c2, s225_45]
        by_cases c3 : v < 9
        · rw [if_pos c3]
          by_cases c4 : 0 < v
          · rw [if_pos c4]
          · rw [if_neg c4, Int32.le_antisymm (Int32.not_lt.mp c4) c1]
        · rw [if_neg c3, Int32.le_antisymm c2 (Int32.not_lt.mp c3)]
          rfl
      · rw [if_pos c1, if_neg c2, s225_45, if_neg (fun z => c2 (Int32.le_of_lt z))]
        rfl
    · rw [if_neg c1, s225_45, if_pos (Int32.lt_of_lt_of_le (Int32.not_le.mp c1) (by decide)), if_neg (fun z => c1 (Int32.le_of_lt z))]
  rw [r225, s225_0]
  rcases hl with ⟨rfl, rfl⟩ | ⟨n, hn⟩
  · refine ⟨I, ?_, fun _ _ => rfl⟩
    have hc0 : I 1231 28 = 0 := i3.trans hc
    simp (disch := first | omega | assumption) only [hm.t, m_r29 hm, m_t29 hm, m_l29 hm, hc0, fin, gT_wI, gR_wI, gL_wI, gS_wI, gU_wI, gI_wI, gJ_wI, gI_wJ, gJ_wJ, gR_wJ, gT_wJ, gL_wJ, gS_wJ, gU_wJ, gI_wR, gJ_wR, gR_wR, gT_wR, gL_wR, gS_wR, gU_wR, wI_wI, wJ_wJ, wR_wR, j_s, j_add, j_addL, j_addR, j_mulL, j_mulR, j_cl, j_clL, j_neg, j_negL, j_nn, j_lt, j_le, j_eq, j_ltL, j_ltR, j_leL, j_leR, j_eqL, j_eqR, j_m1, j_m1L, j_m1R, j_eqLL, j_ltLL, j_leLL, n_le0, n_le1, n_lt0, n_lt1, gc_v, gc_n, ↓reduceIte, and_true, true_and, and_self, or_self, or_false, false_or, not_false_eq_true, not_true_eq_false, false_and, and_false, Nat.reduceAdd, Nat.reduceEqDiff, Nat.reduceLeDiff, Nat.reduceLT]
  · have l1 : 1 ≤ cs.length := by
      cases n with
      | zero => exact hn.elim
      | succ n => rcases hn with ⟨k, -, rfl, -⟩ | ⟨k, -, rfl, -⟩ | ⟨k, c1, c2, V1, V2, -, -, -, rfl, -⟩ <;> simp <;> omega
    have hc2 : I 1231 28 = Int32.ofNat cs.length := i3.trans hc
    have l0 : (cs.length = 0) = False := eq_false (by omega)
    obtain ⟨I', g1, f1, -, v1⟩ := m_ev hm d cs.length hC n cs lw hn 0 0 I (by omega) (by omega) hc2 (fun k x hk => by
      rw [Nat.zero_add, i1, i2]; exact hcs k x hk)
    refine ⟨I', ?_, f1⟩
    have hc3 : I' 1231 28 = Int32.ofNat cs.length := by rw [f1 _ (by omega)]; exact hc2
    have e226 : run gd_P0 (d + 2) 226 [.ref 1231] (wI h I) = some (.inl (some (.int (lw (I 1247)))), wI h I') := by
      rw [r226, s226_0]
      refine g1.trans ?_
      rw [s226_4]
      simp (disch := first | omega | assumption) only [hm.t, m_r24 hm, m_t24 hm, m_l24 hm, m_r25 hm, m_t25 hm, m_l25 hm, m_r26 hm, m_t26 hm, m_l26 hm, m_r29 hm, m_t29 hm, m_l29 hm, hc3, v1, Nat.zero_add, gT_wI, gR_wI, gL_wI, gS_wI, gU_wI, gI_wI, gJ_wI, gI_wJ, gJ_wJ, gR_wJ, gT_wJ, gL_wJ, gS_wJ, gU_wJ, gI_wR, gJ_wR, gR_wR, gT_wR, gL_wR, gS_wR, gU_wR, wI_wI, wJ_wJ, wR_wR, j_s, j_add, j_addL, j_addR, j_mulL, j_mulR, j_cl, j_clL, j_neg, j_negL, j_nn, j_lt, j_le, j_eq, j_ltL, j_ltR, j_leL, j_leR, j_eqL, j_eqR, j_m1, j_m1L, j_m1R, j_eqLL, j_ltLL, j_leLL, n_le0, n_le1, n_lt0, n_lt1, gc_v, gc_n, ↓reduceIte, and_true, true_and, and_self, or_self, or_false, false_or, not_false_eq_true, not_true_eq_false, false_and, and_false, Nat.reduceAdd, Nat.reduceEqDiff, Nat.reduceLeDiff, Nat.reduceLT]
    simp (disch := first | omega | assumption) only [hm.t, m_r29 hm, m_t29 hm, m_l29 hm, hc2, l0, e226, fin, gT_wI, gR_wI, gL_wI, gS_wI, gU_wI, gI_wI, gJ_wI, gI_wJ, gJ_wJ, gR_wJ, gT_wJ, gL_wJ, gS_wJ, gU_wJ, gI_wR, gJ_wR, gR_wR, gT_wR, gL_wR, gS_wR, gU_wR, wI_wI, wJ_wJ, wR_wR, j_s, j_add, j_addL, j_addR, j_mulL, j_mulR, j_cl, j_clL, j_neg, j_negL, j_nn, j_lt, j_le, j_eq, j_ltL, j_ltR, j_leL, j_leR, j_eqL, j_eqR, j_m1, j_m1L, j_m1R, j_eqLL, j_ltLL, j_leLL, n_le0, n_le1, n_lt0, n_lt1, gc_v, gc_n, ↓reduceIte, and_true, true_and, and_self, or_self, or_false, false_or, not_false_eq_true, not_true_eq_false, false_and, and_false, Nat.reduceAdd, Nat.reduceEqDiff, Nat.reduceLeDiff, Nat.reduceLT]

/-! ===== ladder, rung ===== -/
set_option maxRecDepth 100000
def lIn (r : gdR) (f : Nat → Nat) (a n : Nat) : Nat := fo (fun t x => if r a < r (a + 1 + t) then (if x < 1 + f (a + 1 + t) then 1 + f (a + 1 + t) else x) else x) n 1
theorem lIn_s (r : gdR) (f : Nat → Nat) (a n : Nat) : lIn r f a (n + 1) = if r a < r (a + 1 + n) then (if lIn r f a n < 1 + f (a + 1 + n) then 1 + f (a + 1 + n) else lIn r f a n) else lIn r f a n := rfl
theorem lIn_c {r : gdR} {f g : Nat → Nat} {a : Nat} : ∀ n, (∀ t, t < n → f (a + 1 + t) = g (a + 1 + t)) → lIn r f a n = lIn r g a n
  | 0, _ => rfl
  | n + 1, h => by rw [lIn_s, lIn_s, lIn_c n (fun t ht => h t (by omega)), h n (by omega)]
theorem lIn_or (r : gdR) (f : Nat → Nat) (a : Nat) : ∀ n, lIn r f a n = 1 ∨ ∃ t, t < n ∧ r a < r (a + 1 + t) ∧ lIn r f a n = 1 + f (a + 1 + t)
  | 0 => Or.inl rfl
  | n + 1 => by
    have ih : lIn r f a n = 1 ∨ ∃ t, t < n + 1 ∧ r a < r (a + 1 + t) ∧ lIn r f a n = 1 + f (a + 1 + t) := by
      rcases lIn_or r f a n with h | ⟨t, h1, h2, h3⟩
      · exact Or.inl h
      · exact Or.inr ⟨t, by omega, h2, h3⟩
    rw [lIn_s]
    by_cases c : r a < r (a + 1 + n)
    · rw [if_pos c]
      by_cases c2 : lIn r f a n < 1 + f (a + 1 + n)
      · rw [if_pos c2]; exact Or.inr ⟨n, by omega, c, rfl⟩
      · rw [if_neg c2]; exact ih
    · rw [if_neg c]; exact ih
def lG (r : gdR) (N : Nat) : Nat → Nat → Nat
  | 0, _ => 0
  | k + 1, a => lIn r (lG r N k) a (N - 1 - a)
/-- the longest ladder from a on -/
def lF (r : gdR) (N : Nat) : Nat → Nat := lG r N N
theorem lG_s (r : gdR) (N : Nat) : ∀ k a, a < N → N - a ≤ k → lG r N (k + 1) a = lG r N k a
  | 0, a, h, h2 => by omega
  | k + 1, a, h, h2 => by
    show lIn r (lG r N (k + 1)) a (N - 1 - a) = lIn r (lG r N k) a (N - 1 - a)
    exact lIn_c _ (fun t ht => lG_s r N k (a + 1 + t) (by omega) (by omega))
theorem lF_eq (r : gdR) {N a : Nat} (h : a < N) : lF r N a = lIn r (lF r N) a (N - 1 - a) := by
  have e := lG_s r N N a h (by omega)
  unfold lF
  exact e.symm
theorem lF_le (r : gdR) {N : Nat} : ∀ k a, a < N → N - a ≤ k → lF r N a ≤ N - a ∧ 1 ≤ lF r N a
  | 0, a, h, h2 => by omega
  | k + 1, a, h, h2 => by
    rw [lF_eq r h]
    rcases lIn_or r (lF r N) a (N - 1 - a) with e | ⟨t, t1, t2, t3⟩
    · rw [e]; omega
    · rw [t3]
      have := lF_le r (N := N) k (a + 1 + t) (by omega) (by omega)
      omega
theorem lF_7 (r : gdR) {N a : Nat} (h : a < N) : lF r N a ≤ N := by
  have := lF_le r (N - a) a h (Nat.le_refl _)
  omega
theorem lIn_7 (r : gdR) {N a : Nat} (n : Nat) (h : a + n < N) : lIn r (lF r N) a n ≤ N + 1 := by
  rcases lIn_or r (lF r N) a n with e | ⟨t, t1, t2, t3⟩
  · omega
  · have := lF_7 r (N := N) (a := a + 1 + t) (by omega)
    omega
/-- the longest of the last n -/
def lL (r : gdR) (N n : Nat) : Nat := fo (fun i x => if x < lF r N (N - 1 - i) then lF r N (N - 1 - i) else x) n 0
theorem lL_s (r : gdR) (N n : Nat) : lL r N (n + 1) = if lL r N n < lF r N (N - 1 - n) then lF r N (N - 1 - n) else lL r N n := rfl
theorem lL_or (r : gdR) (N : Nat) : ∀ n, n ≤ N → lL r N n = 0 ∨ ∃ a, a < N ∧ lF r N a = lL r N n
  | 0, _ => Or.inl rfl
  | n + 1, h => by
    rw [lL_s]
    split
    · exact Or.inr ⟨N - 1 - n, by omega, rfl⟩
    · exact lL_or r N n (by omega)
theorem lL_7 (r : gdR) (N n : Nat) (h : n ≤ N) : lL r N n ≤ N := by
  rcases lL_or r N n h with e | ⟨a, a1, a2⟩
  · omega
  · rw [← a2]; exact lF_7 r a1
/-- the rungs -/
def lR (r : gdR) (N : Nat) : Nat → Nat
  | 0 => fi (fun a => decide (lF r N a = lL r N N)) (fun a => a) 0 N 0
  | j + 1 => fi (fun a => decide (lF r N a = lL r N N - (j + 1) ∧ r (lR r N j) < r a)) (fun a => a) 0 (N - (lR r N j + 1)) (lR r N j + 1)
def lC (r : gdR) (N j a : Nat) : Prop := lF r N a = lL r N N - j ∧ (j = 0 ∨ r (lR r N (j - 1)) < r a)
theorem lR_p (r : gdR) (N : Nat) : ∀ j, j < lL r N N → lR r N j < N ∧ lC r N j (lR r N j) ∧ (j = 0 ∨ lR r N (j - 1) < lR r N j) ∧ ∀ a, (j = 0 ∨ lR r N (j - 1) < a) → a < lR r N j → ¬ lC r N j a
  | 0, h => by
    have ex : ∃ a, a < N ∧ lF r N a = lL r N N := (lL_or r N N (Nat.le_refl _)).resolve_left (by omega)
    obtain ⟨a, a1, a2⟩ := ex
    rcases fi_or (c := fun a => decide (lF r N a = lL r N N)) (R := fun a => a) (e := 0) N 0 with ⟨-, e2⟩ | ⟨j, _, j2, j3, j4, j5⟩
    · exact absurd a2 (of_decide_eq_false (e2 a (by omega) (by omega)))
    · have e : lR r N 0 = j := j4
      have j6 := of_decide_eq_true j3
      rw [e]
      refine ⟨by omega, ⟨j6, Or.inl rfl⟩, Or.inl rfl, fun b _ hb hc => ?_⟩
      exact of_decide_eq_false (j5 b (by omega) hb) hc.1
  | j + 1, h => by
    obtain ⟨p1, ⟨p2, -⟩, -, -⟩ := lR_p r N j (by omega)
    have ex : ∃ a, lR r N j < a ∧ a < N ∧ (lF r N a = lL r N N - (j + 1) ∧ r (lR r N j) < r a) := by
      rw [lF_eq r p1] at p2
      rcases lIn_or r (lF r N) (lR r N j) (N - 1 - lR r N j) with e | ⟨t, t1, t2, t3⟩
      · omega
      · exact ⟨lR r N j + 1 + t, by omega, by omega, by omega, t2⟩
    obtain ⟨a, a0, a1, a2⟩ := ex
    rcases fi_or (c := fun a => decide (lF r N a = lL r N N - (j + 1) ∧ r (lR r N j) < r a)) (R := fun a => a) (e := 0) (N - (lR r N j + 1)) (lR r N j + 1) with ⟨-, e2⟩ | ⟨q, q1, j2, j3, j4, j5⟩
    · exact absurd a2 (of_decide_eq_false (e2 a (by omega) (by omega)))
    · have e : lR r N (j + 1) = q := j4
      have j6 := of_decide_eq_true j3
      rw [e]
      refine ⟨by omega, ⟨j6.1, Or.inr j6.2⟩, Or.inr (by show lR r N j < q; omega), fun b b1 hb hc => ?_⟩
      have b2 : lR r N j < b := b1.resolve_left (by omega)
      have b3 : r (lR r N j) < r b := hc.2.resolve_left (by omega)
      exact of_decide_eq_false (j5 b (by omega) hb) ⟨hc.1, b3⟩
def vLad (D : gdD) : Int32 := Int32.ofNat (lL (dNow D) (eN (dE D)) (eN (dE D)))
def vRung (D : gdD) (k : Nat) : Int32 := if lL (dNow D) (eN (dE D)) (eN (dE D)) ≤ k then -1 else Int32.ofNat (lR (dNow D) (eN (dE D)) k)
theorem sp47 {h : gd_H} {D : gdD} (hi : XI h D) (hD : DI D) {d : Nat} (hd : 3 ≤ d) : ∃ h', run gd_P0 d 47 [.ref 96] h = some (.inl (some (.int (vLad D))), h') ∧ XQ h h' ∧ ∀ j, j < lL (dNow D) (eN (dE D)) (eN (dE D)) → gI h' 1222 j = Int32.ofNat (lR (dNow D) (eN (dE D)) j) := by
  obtain ⟨a, σ, m, h145, hσ, hs, hx, hr, hm, hl, hE, ha, hT9⟩ := hi.nw hD
  have hg := hi.1
  obtain ⟨d, rfl⟩ : ∃ e, d = e + 1 := ⟨d - 1, by omega⟩
  obtain ⟨⟨hA1, hA2, hS1⟩, ⟨tA, rA8, tLw, rA9⟩, ⟨rA0, tA1, lA1⟩, ⟨rA1, tA2, lA2⟩, ⟨rA2, tA3, lA3⟩, ⟨rA3, tA4, lA4⟩, ⟨rA4, tA5, lA5⟩, ⟨rA5, tA6, lA6⟩, ⟨rA6, tA7, lA7⟩, ⟨rA7, tA8⟩, tS, ⟨rS0, tS1, lS1⟩, ⟨rS1, tS2, lS2⟩, ⟨rS2, tS3, lS3⟩, ⟨rS3, tS4, lS4⟩, ⟨rS4, tS5, lS5⟩, ⟨rS5, tS6, lS6⟩⟩ := id hs
  obtain ⟨⟨hB, hN⟩, ⟨iB, iN⟩, iG, iK, iR, cH, cF, cO, cA, cC, cW, cT, cG, cM, cL⟩ := id hx
  unfold vLad
  generalize eN (dE D) = N at *
  generalize dNow D = r at *
  have HN : ∀ I : Nat → Nat → Int32, (∀ b, b ≠ 1221 → b ≠ 1222 → I b = gI h b) → I σ 7 = Int32.ofNat N ∧ ∀ p, p < 7 → I (a + 2) p = r p := by
    intro I hI
    rw [hI σ (by omega) (by omega), hI (a + 2) (by omega) (by omega)]
    exact ⟨iN, cH⟩
  have B : ∀ f i j I, N - i < f → i ≤ N → (∀ b, b ≠ 1221 → b ≠ 1222 → I b = gI h b) → (∀ b, b < N → I 1221 b = Int32.ofNat (lF r N b)) → j ≤ lL r N N → (∀ q, q < j → lR r N q < i ∧ I 1222 q = Int32.ofNat (lR r N q)) → (j < lL r N N → i ≤ lR r N j) → ∃ I', go gd_P0 d 47 121 [.ref 96, .ref (a + 2), .int (Int32.ofNat (lL r N N)), .int (Int32.ofNat j), .int (Int32.ofNat i), .null] [] (wI h I) = some (.inl (some (.int (Int32.ofNat (lL r N N)))), wI h I') ∧ (∀ b, b ≠ 1221 → b ≠ 1222 → I' b = gI h b) ∧ ∀ q, q < lL r N N → I' 1222 q = Int32.ofNat (lR r N q) := by
    intro f
    induction f with
    | zero => intro i j I h0; omega
    | succ f ih =>
      intro i j I h0 h1 hI hF hj hq hn
      obtain ⟨iN2, cH2⟩ := HN I hI
      have hL7 := lL_7 r N N (Nat.le_refl _)
      by_cases c0 : lL r N N ≤ j
      · have ej : j = lL r N N := by omega
        subst ej
        refine ⟨I, ?_, hI, fun q hq2 => (hq q hq2).2⟩
        rw [s47_121]
        by_cases c1 : N ≤ i
        · simp (disch := first | omega | assumption) only [hg.1, x_r2 hg, x_t2 hg, x_r12 hg, x_t12 hg, x_l12 hg, x_r13 hg, x_t13 hg, x_l13 hg, hσ, h145, tA, rA8, tLw, rA9, rA0, tA1, lA1, rA1, tA2, lA2, rA2, tA3, lA3, rA3, tA4, lA4, rA4, tA5, lA5, rA5, tA6, lA6, rA6, tA7, lA7, rA7, tA8, tS, rS0, tS1, lS1, rS1, tS2, lS2, rS2, tS3, lS3, rS3, tS4, lS4, rS4, tS5, lS5, rS5, tS6, lS6, iB, iN, iG, iK, iR, cH, cF, cO, cA, cC, cT, cG, cM, cL, iN2, c1, s47_192, gT_wI, gR_wI, gL_wI, gS_wI, gU_wI, gI_wI, gJ_wI, gI_wJ, gJ_wJ, gR_wJ, gT_wJ, gL_wJ, gS_wJ, gU_wJ, gI_wR, gJ_wR, gR_wR, gT_wR, gL_wR, gS_wR, gU_wR, wI_wI, wJ_wJ, wR_wR, j_s, j_add, j_addL, j_addR, j_mulL, j_mulR, j_cl, j_clL, j_neg, j_negL, j_nn, j_lt, j_le, j_eq, j_ltL, j_ltR, j_leL, j_leR, j_eqL, j_eqR, j_m1, j_m1L, j_m1R, j_eqLL, j_ltLL, j_leLL, n_le0, n_le1, n_lt0, n_lt1, gc_v, gc_n, ↓reduceIte, and_true, true_and, and_self, or_self, or_false, false_or, not_false_eq_true, not_true_eq_false, false_and, and_false, Nat.reduceAdd, Nat.reduceEqDiff, Nat.reduceLeDiff, Nat.reduceLT]
        · simp (disch := first | omega | assumption) only [hg.1, x_r2 hg, x_t2 hg, x_r12 hg, x_t12 hg, x_l12 hg, x_r13 hg, x_t13 hg, x_l13 hg, hσ, h145, tA, rA8, tLw, rA9, rA0, tA1, lA1, rA1, tA2, lA2, rA2, tA3, lA3, rA3, tA4, lA4, rA4, tA5, lA5, rA5, tA6, lA6, rA6, tA7, lA7, rA7, tA8, tS, rS0, tS1, lS1, rS1, tS2, lS2, rS2, tS3, lS3, rS3, tS4, lS4, rS4, tS5, lS5, rS5, tS6, lS6, iB, iN, iG, iK, iR, cH, cF, cO, cA, cC, cT, cG, cM, cL, iN2, c1, s47_192, Nat.le_refl, gT_wI, gR_wI, gL_wI, gS_wI, gU_wI, gI_wI, gJ_wI, gI_wJ, gJ_wJ, gR_wJ, gT_wJ, gL_wJ, gS_wJ, gU_wJ, gI_wR, gJ_wR, gR_wR, gT_wR, gL_wR, gS_wR, gU_wR, wI_wI, wJ_wJ, wR_wR, j_s, j_add, j_addL, j_addR, j_mulL, j_mulR, j_cl, j_clL, j_neg, j_negL, j_nn, j_lt, j_le, j_eq, j_ltL, j_ltR, j_leL, j_leR, j_eqL, j_eqR, j_m1, j_m1L, j_m1R, j_eqLL, j_ltLL, j_leLL, n_le0, n_le1, n_lt0, n_lt1, gc_v, gc_n, ↓reduceIte, and_true, true_and, and_self, or_self, or_false, false_or, not_false_eq_true, not_true_eq_false, false_and, and_false, Nat.reduceAdd, Nat.reduceEqDiff, Nat.reduceLeDiff, Nat.reduceLT]
      · obtain ⟨p1, p2, p3, p4⟩ := lR_p r N j (by omega)
        have hn2 := hn (by omega)
        have hi7 : i < N := by omega
        have F7 := lF_7 r hi7
        have hFi := hF i hi7
        have hci := cH2 i (by omega)
        have es : Int32.ofNat (lL r N N) - Int32.ofNat j = Int32.ofNat (lL r N N - j) := j_sub (by omega)
        have nx : ∀ J : Nat → Nat → Int32, go gd_P0 d 47 186 [.ref 96, .ref (a + 2), .int (Int32.ofNat (lL r N N)), .int (Int32.ofNat j), .int (Int32.ofNat i), .null] [] (wI h J) = go gd_P0 d 47 121 [.ref 96, .ref (a + 2), .int (Int32.ofNat (lL r N N)), .int (Int32.ofNat j), .int (Int32.ofNat (i + 1)), .null] [] (wI h J) := by
          intro J
          rw [s47_186, j_s]
        have nx2 : go gd_P0 d 47 175 [.ref 96, .ref (a + 2), .int (Int32.ofNat (lL r N N)), .int (Int32.ofNat j), .int (Int32.ofNat i), .null] [] (wI h I) = go gd_P0 d 47 121 [.ref 96, .ref (a + 2), .int (Int32.ofNat (lL r N N)), .int (Int32.ofNat (j + 1)), .int (Int32.ofNat (i + 1)), .null] [] (wI h (up1 I 1222 j (Int32.ofNat i))) := by
          rw [s47_175]
          simp (disch := first | omega | assumption) only [hg.1, x_r2 hg, x_t2 hg, x_r12 hg, x_t12 hg, x_l12 hg, x_r13 hg, x_t13 hg, x_l13 hg, hσ, h145, tA, rA8, tLw, rA9, rA0, tA1, lA1, rA1, tA2, lA2, rA2, tA3, lA3, rA3, tA4, lA4, rA4, tA5, lA5, rA5, tA6, lA6, rA6, tA7, lA7, rA7, tA8, tS, rS0, tS1, lS1, rS1, tS2, lS2, rS2, tS3, lS3, rS3, tS4, lS4, rS4, tS5, lS5, rS5, tS6, lS6, iB, iN, iG, iK, iR, cH, cF, cO, cA, cC, cT, cG, cM, cL, s47_186, gT_wI, gR_wI, gL_wI, gS_wI, gU_wI, gI_wI, gJ_wI, gI_wJ, gJ_wJ, gR_wJ, gT_wJ, gL_wJ, gS_wJ, gU_wJ, gI_wR, gJ_wR, gR_wR, gT_wR, gL_wR, gS_wR, gU_wR, wI_wI, wJ_wJ, wR_wR, j_s, j_add, j_addL, j_addR, j_mulL, j_mulR, j_cl, j_clL, j_neg, j_negL, j_nn, j_lt, j_le, j_eq, j_ltL, j_ltR, j_leL, j_leR, j_eqL, j_eqR, j_m1, j_m1L, j_m1R, j_eqLL, j_ltLL, j_leLL, n_le0, n_le1, n_lt0, n_lt1, gc_v, gc_n, ↓reduceIte, and_true, true_and, and_self, or_self, or_false, false_or, not_false_eq_true, not_true_eq_false, false_and, and_false, Nat.reduceAdd, Nat.reduceEqDiff, Nat.reduceLeDiff, Nat.reduceLT]
        by_cases c1 : i = lR r N j
        · have e : go gd_P0 d 47 121 [.ref 96, .ref (a + 2), .int (Int32.ofNat (lL r N N)), .int (Int32.ofNat j), .int (Int32.ofNat i), .null] [] (wI h I) = go gd_P0 d 47 121 [.ref 96, .ref (a + 2), .int (Int32.ofNat (lL r N N)), .int (Int32.ofNat (j + 1)), .int (Int32.ofNat (i + 1)), .null] [] (wI h (up1 I 1222 j (Int32.ofNat i))) := by
            rw [← c1] at p2
            refine Eq.trans ?_ nx2
            rw [s47_121]
            · by_cases j0 : j ≤ 0
              · have f1 : lF r N i = lL r N N - j := p2.1
                simp (disch := first | omega | assumption) only [hg.1, x_r2 hg, x_t2 hg, x_r12 hg, x_t12 hg, x_l12 hg, x_r13 hg, x_t13 hg, x_l13 hg, hσ, h145, tA, rA8, tLw, rA9, rA0, tA1, lA1, rA1, tA2, lA2, rA2, tA3, lA3, rA3, tA4, lA4, rA4, tA5, lA5, rA5, tA6, lA6, rA6, tA7, lA7, rA7, tA8, tS, rS0, tS1, lS1, rS1, tS2, lS2, rS2, tS3, lS3, rS3, tS4, lS4, rS4, tS5, lS5, rS5, tS6, lS6, iB, iN, iG, iK, iR, cH, cF, cO, cA, cC, cT, cG, cM, cL, iN2, c0, hFi, f1, es, j0, gT_wI, gR_wI, gL_wI, gS_wI, gU_wI, gI_wI, gJ_wI, gI_wJ, gJ_wJ, gR_wJ, gT_wJ, gL_wJ, gS_wJ, gU_wJ, gI_wR, gJ_wR, gR_wR, gT_wR, gL_wR, gS_wR, gU_wR, wI_wI, wJ_wJ, wR_wR, j_s, j_add, j_addL, j_addR, j_mulL, j_mulR, j_cl, j_clL, j_neg, j_negL, j_nn, j_lt, j_le, j_eq, j_ltL, j_ltR, j_leL, j_leR, j_eqL, j_eqR, j_m1, j_m1L, j_m1R, j_eqLL, j_ltLL, j_leLL, n_le0, n_le1, n_lt0, n_lt1, gc_v, gc_n, ↓reduceIte, and_true, true_and, and_self, or_self, or_false, false_or, not_false_eq_true, not_true_eq_false, false_and, and_false, Nat.reduceAdd, Nat.reduceEqDiff, Nat.reduceLeDiff, Nat.reduceLT]
              · have z := p2.2.resolve_left (by omega)
                obtain ⟨q1, q2⟩ := hq (j - 1) (by omega)
                have q3 := cH2 (lR r N (j - 1)) (by omega)
                have e1 : Int32.ofNat j - 1 = Int32.ofNat (j - 1) := j_sub (m := j) (n := 1) (by omega)
                simp (disch := first | omega | assumption) only [hg.1, x_r2 hg, x_t2 hg, x_r12 hg, x_t12 hg, x_l12 hg, x_r13 hg, x_t13 hg, x_l13 hg, hσ, h145, tA, rA8, tLw, rA9, rA0, tA1, lA1, rA1, tA2, lA2, rA2, tA3, lA3, rA3, tA4, lA4, rA4, tA5, lA5, rA5, tA6, lA6, rA6, tA7, lA7, rA7, tA8, tS, rS0, tS1, lS1, rS1, tS2, lS2, rS2, tS3, lS3, rS3, tS4, lS4, rS4, tS5, lS5, rS5, tS6, lS6, iB, iN, iG, iK, iR, cH, cF, cO, cA, cC, cT, cG, cM, cL, iN2, c0, hFi, es, p2.1, e1, j0, q2, q3, hci, z, gT_wI, gR_wI, gL_wI, gS_wI, gU_wI, gI_wI, gJ_wI, gI_wJ, gJ_wJ, gR_wJ, gT_wJ, gL_wJ, gS_wJ, gU_wJ, gI_wR, gJ_wR, gR_wR, gT_wR, gL_wR, gS_wR, gU_wR, wI_wI, wJ_wJ, wR_wR, j_s, j_add, j_addL, j_addR, j_mulL, j_mulR, j_cl, j_clL, j_neg, j_negL, j_nn, j_lt, j_le, j_eq, j_ltL, j_ltR, j_leL, j_leR, j_eqL, j_eqR, j_m1, j_m1L, j_m1R, j_eqLL, j_ltLL, j_leLL, n_le0, n_le1, n_lt0, n_lt1, gc_v, gc_n, ↓reduceIte, and_true, true_and, and_self, or_self, or_false, false_or, not_false_eq_true, not_true_eq_false, false_and, and_false, Nat.reduceAdd, Nat.reduceEqDiff, Nat.reduceLeDiff, Nat.reduceLT]
          rw [e]
          refine ih (i + 1) (j + 1) _ (by omega) (by omega) (fun b b1 b2 => by rw [up1_nc _ _ _ b2]; exact hI b b1 b2) (fun b hb => by rw [up1_nc _ _ _ (by omega)]; exact hF b hb) (by omega) (fun q hq2 => ?_) (fun hl => ?_)
          · by_cases z : q = j
            · subst z
              exact ⟨by omega, by rw [up1_eq, c1]⟩
            · have := hq q (by omega)
              exact ⟨by omega, by rw [up1_nj _ _ z]; exact this.2⟩
          · have := (lR_p r N (j + 1) hl).2.2.1.resolve_left (by omega)
            have t2 : lR r N j < lR r N (j + 1) := this
            omega
        · have nc := p4 i (by
            by_cases j0 : j = 0
            · exact Or.inl j0
            · exact Or.inr (hq (j - 1) (by omega)).1) (by omega)
          have e : go gd_P0 d 47 121 [.ref 96, .ref (a + 2), .int (Int32.ofNat (lL r N N)), .int (Int32.ofNat j), .int (Int32.ofNat i), .null] [] (wI h I) = go gd_P0 d 47 121 [.ref 96, .ref (a + 2), .int (Int32.ofNat (lL r N N)), .int (Int32.ofNat j), .int (Int32.ofNat (i + 1)), .null] [] (wI h I) := by
            refine Eq.trans ?_ (nx I)
            by_cases f1 : lF r N i = lL r N N - j
            · have j0 : ¬ j ≤ 0 := fun z => nc ⟨f1, Or.inl (by omega)⟩
              have z : ¬ r (lR r N (j - 1)) < r i := fun z => nc ⟨f1, Or.inr z⟩
              obtain ⟨q1, q2⟩ := hq (j - 1) (by omega)
              have q3 := cH2 (lR r N (j - 1)) (by omega)
              have e1 : Int32.ofNat j - 1 = Int32.ofNat (j - 1) := j_sub (m := j) (n := 1) (by omega)
              rw [s47_121]
              simp (disch := first | omega | assumption) only [hg.1, x_r2 hg, x_t2 hg, x_r12 hg, x_t12 hg, x_l12 hg, x_r13 hg, x_t13 hg, x_l13 hg, hσ, h145, tA, rA8, tLw, rA9, rA0, tA1, lA1, rA1, tA2, lA2, rA2, tA3, lA3, rA3, tA4, lA4, rA4, tA5, lA5, rA5, tA6, lA6, rA6, tA7, lA7, rA7, tA8, tS, rS0, tS1, lS1, rS1, tS2, lS2, rS2, tS3, lS3, rS3, tS4, lS4, rS4, tS5, lS5, rS5, tS6, lS6, iB, iN, iG, iK, iR, cH, cF, cO, cA, cC, cT, cG, cM, cL, iN2, c0, hFi, es, f1, e1, j0, q2, q3, hci, z, gT_wI, gR_wI, gL_wI, gS_wI, gU_wI, gI_wI, gJ_wI, gI_wJ, gJ_wJ, gR_wJ, gT_wJ, gL_wJ, gS_wJ, gU_wJ, gI_wR, gJ_wR, gR_wR, gT_wR, gL_wR, gS_wR, gU_wR, wI_wI, wJ_wJ, wR_wR, j_s, j_add, j_addL, j_addR, j_mulL, j_mulR, j_cl, j_clL, j_neg, j_negL, j_nn, j_lt, j_le, j_eq, j_ltL, j_ltR, j_leL, j_leR, j_eqL, j_eqR, j_m1, j_m1L, j_m1R, j_eqLL, j_ltLL, j_leLL, n_le0, n_le1, n_lt0, n_lt1, gc_v, gc_n, ↓reduceIte, and_true, true_and, and_self, or_self, or_false, false_or, not_false_eq_true, not_true_eq_false, false_and, and_false, Nat.reduceAdd, Nat.reduceEqDiff, Nat.reduceLeDiff, Nat.reduceLT]
            · rw [s47_121]
              simp (disch := first | omega | assumption) only [hg.1, x_r2 hg, x_t2 hg, x_r12 hg, x_t12 hg, x_l12 hg, x_r13 hg, x_t13 hg, x_l13 hg, hσ, h145, tA, rA8, tLw, rA9, rA0, tA1, lA1, rA1, tA2, lA2, rA2, tA3, lA3, rA3, tA4, lA4, rA4, tA5, lA5, rA5, tA6, lA6, rA6, tA7, lA7, rA7, tA8, tS, rS0, tS1, lS1, rS1, tS2, lS2, rS2, tS3, lS3, rS3, tS4, lS4, rS4, tS5, lS5, rS5, tS6, lS6, iB, iN, iG, iK, iR, cH, cF, cO, cA, cC, cT, cG, cM, cL, iN2, c0, hFi, es, f1, gT_wI, gR_wI, gL_wI, gS_wI, gU_wI, gI_wI, gJ_wI, gI_wJ, gJ_wJ, gR_wJ, gT_wJ, gL_wJ, gS_wJ, gU_wJ, gI_wR, gJ_wR, gR_wR, gT_wR, gL_wR, gS_wR, gU_wR, wI_wI, wJ_wJ, wR_wR, j_s, j_add, j_addL, j_addR, j_mulL, j_mulR, j_cl, j_clL, j_neg, j_negL, j_nn, j_lt, j_le, j_eq, j_ltL, j_ltR, j_leL, j_leR, j_eqL, j_eqR, j_m1, j_m1L, j_m1R, j_eqLL, j_ltLL, j_leLL, n_le0, n_le1, n_lt0, n_lt1, gc_v, gc_n, ↓reduceIte, and_true, true_and, and_self, or_self, or_false, false_or, not_false_eq_true, not_true_eq_false, false_and, and_false, Nat.reduceAdd, Nat.reduceEqDiff, Nat.reduceLeDiff, Nat.reduceLT]
          rw [e]
          exact ih (i + 1) j I (by omega) (by omega) hI hF hj (fun q hq2 => ⟨by have := (hq q hq2).1; omega, (hq q hq2).2⟩) (fun hl => by omega)
  have A := lp_e (fun i I => go gd_P0 d 47 26 [.ref 96, .ref (a + 2), .int (Int32.ofNat (lL r N i)), .int 0, .int (Int32.ofNat (N - i) - 1), .null] [] (wI h I)) (fun i I => (∀ b, b ≠ 1221 → b ≠ 1222 → I b = gI h b) ∧ ∀ b, N - i ≤ b → b < N → I 1221 b = Int32.ofNat (lF r N b)) N (gI h) ⟨fun _ _ _ => rfl, fun b h1 h2 => by omega⟩ ?_
  · obtain ⟨I, e1, i1, i2⟩ := A
    obtain ⟨I', e2, i3, i4⟩ := B (N + 1) 0 0 I (by omega) (by omega) i1 (fun b hb => i2 b (by omega) hb) (by omega) (fun q hq => by omega) (fun _ => by omega)
    refine ⟨wI h I', ?_, XQ.i (fun b hb => i3 b (fun z => hb (by unfold scr; omega)) (fun z => hb (by unfold scr; omega))), i4⟩
    rw [r47, s47_0]
    simp (disch := first | omega | assumption) only [hg.1, x_r2 hg, x_t2 hg, x_r12 hg, x_t12 hg, x_l12 hg, x_r13 hg, x_t13 hg, x_l13 hg, hσ, h145, tA, rA8, tLw, rA9, rA0, tA1, lA1, rA1, tA2, lA2, rA2, tA3, lA3, rA3, tA4, lA4, rA4, tA5, lA5, rA5, tA6, lA6, rA6, tA7, lA7, rA7, tA8, tS, rS0, tS1, lS1, rS1, tS2, lS2, rS2, tS3, lS3, rS3, tS4, lS4, rS4, tS5, lS5, rS5, tS6, lS6, iB, iN, iG, iK, iR, cH, cF, cO, cA, cC, cT, cG, cM, cL, s47_7, gT_wI, gR_wI, gL_wI, gS_wI, gU_wI, gI_wI, gJ_wI, gI_wJ, gJ_wJ, gR_wJ, gT_wJ, gL_wJ, gS_wJ, gU_wJ, gI_wR, gJ_wR, gR_wR, gT_wR, gL_wR, gS_wR, gU_wR, wI_wI, wJ_wJ, wR_wR, j_s, j_add, j_addL, j_addR, j_mulL, j_mulR, j_cl, j_clL, j_neg, j_negL, j_nn, j_lt, j_le, j_eq, j_ltL, j_ltR, j_leL, j_leR, j_eqL, j_eqR, j_m1, j_m1L, j_m1R, j_eqLL, j_ltLL, j_leLL, n_le0, n_le1, n_lt0, n_lt1, gc_v, gc_n, ↓reduceIte, and_true, true_and, and_self, or_self, or_false, false_or, not_false_eq_true, not_true_eq_false, false_and, and_false, Nat.reduceAdd, Nat.reduceEqDiff, Nat.reduceLeDiff, Nat.reduceLT]
    refine Eq.trans e1 (Eq.trans ?_ e2)
    try dsimp only
    have en : Int32.ofNat (N - N) - 1 < 0 := by rw [Nat.sub_self]; decide
    rw [s47_26, if_pos en]
    rfl
  · intro i hi7 I ⟨hI, hF⟩
    try dsimp only
    obtain ⟨k, ek⟩ : ∃ k, N - i = k + 1 := ⟨N - i - 1, by omega⟩
    have ek2 : N - 1 - i = k := by omega
    have hI0 : ∀ b, b ≠ 1221 → b ≠ 1222 → up1 I 1221 k 1 b = gI h b := fun b b1 b2 => by rw [up1_nc _ _ _ b1]; exact hI b b1 b2
    have hF0 : ∀ b, k < b → b < N → up1 I 1221 k 1 1221 b = Int32.ofNat (lF r N b) := fun b b1 b2 => by rw [up1_nj _ _ (by omega)]; exact hF b (by omega) b2
    have L := lp_e (fun t J => go gd_P0 d 47 45 [.ref 96, .ref (a + 2), .int (Int32.ofNat (lL r N i)), .int 0, .int (Int32.ofNat k), .int (Int32.ofNat (k + 1 + t))] [] (wI h J)) (fun t J => (∀ b, b ≠ 1221 → b ≠ 1222 → J b = gI h b) ∧ (∀ b, k < b → b < N → J 1221 b = Int32.ofNat (lF r N b)) ∧ J 1221 k = Int32.ofNat (lIn r (lF r N) k t)) (N - 1 - k) (up1 I 1221 k 1) ⟨hI0, hF0, up1_eq _ _ _ _⟩ ?_
    · obtain ⟨J, e1, j1, j2, j3⟩ := L
      rw [← lF_eq r (show k < N by omega)] at j3
      obtain ⟨iN2, cH2⟩ := HN J j1
      have hL7 := lL_7 r N i (by omega)
      have F7 := lF_7 r (show k < N by omega)
      have em : Int32.ofNat k + -1 = Int32.ofNat k - 1 := (Int32.sub_eq_add_neg _ _).symm
      refine ⟨J, ?_, j1, fun b b1 b2 => ?_⟩
      · rw [ek, lL_s, ek2, show N - (i + 1) = k by omega, ← j_s, Int32.add_sub_cancel, s47_26]
        simp (disch := first | omega | assumption) only [hg.1, x_r2 hg, x_t2 hg, x_r12 hg, x_t12 hg, x_l12 hg, x_r13 hg, x_t13 hg, x_l13 hg, hσ, h145, tA, rA8, tLw, rA9, rA0, tA1, lA1, rA1, tA2, lA2, rA2, tA3, lA3, rA3, tA4, lA4, rA4, tA5, lA5, rA5, tA6, lA6, rA6, tA7, lA7, rA7, tA8, tS, rS0, tS1, lS1, rS1, tS2, lS2, rS2, tS3, lS3, rS3, tS4, lS4, rS4, tS5, lS5, rS5, tS6, lS6, iB, iN, iG, iK, iR, cH, cF, cO, cA, cC, cT, cG, cM, cL, gT_wI, gR_wI, gL_wI, gS_wI, gU_wI, gI_wI, gJ_wI, gI_wJ, gJ_wJ, gR_wJ, gT_wJ, gL_wJ, gS_wJ, gU_wJ, gI_wR, gJ_wR, gR_wR, gT_wR, gL_wR, gS_wR, gU_wR, wI_wI, wJ_wJ, wR_wR, j_s, j_add, j_addL, j_addR, j_mulL, j_mulR, j_cl, j_clL, j_neg, j_negL, j_nn, j_lt, j_le, j_eq, j_ltL, j_ltR, j_leL, j_leR, j_eqL, j_eqR, j_m1, j_m1L, j_m1R, j_eqLL, j_ltLL, j_leLL, n_le0, n_le1, n_lt0, n_lt1, gc_v, gc_n, ↓reduceIte, and_true, true_and, and_self, or_self, or_false, false_or, not_false_eq_true, not_true_eq_false, false_and, and_false, Nat.reduceAdd, Nat.reduceEqDiff, Nat.reduceLeDiff, Nat.reduceLT]
        refine Eq.trans e1 ?_
        rw [s47_45, show k + 1 + (N - 1 - k) = N by omega]
        by_cases c : lL r N i < lF r N k
        · simp (disch := first | omega | assumption) only [hg.1, x_r2 hg, x_t2 hg, x_r12 hg, x_t12 hg, x_l12 hg, x_r13 hg, x_t13 hg, x_l13 hg, hσ, h145, tA, rA8, tLw, rA9, rA0, tA1, lA1, rA1, tA2, lA2, rA2, tA3, lA3, rA3, tA4, lA4, rA4, tA5, lA5, rA5, tA6, lA6, rA6, tA7, lA7, rA7, tA8, tS, rS0, tS1, lS1, rS1, tS2, lS2, rS2, tS3, lS3, rS3, tS4, lS4, rS4, tS5, lS5, rS5, tS6, lS6, iB, iN, iG, iK, iR, cH, cF, cO, cA, cC, cT, cG, cM, cL, iN2, j3, c, Nat.le_refl, s47_111, em, gT_wI, gR_wI, gL_wI, gS_wI, gU_wI, gI_wI, gJ_wI, gI_wJ, gJ_wJ, gR_wJ, gT_wJ, gL_wJ, gS_wJ, gU_wJ, gI_wR, gJ_wR, gR_wR, gT_wR, gL_wR, gS_wR, gU_wR, wI_wI, wJ_wJ, wR_wR, j_s, j_add, j_addL, j_addR, j_mulL, j_mulR, j_cl, j_clL, j_neg, j_negL, j_nn, j_lt, j_le, j_eq, j_ltL, j_ltR, j_leL, j_leR, j_eqL, j_eqR, j_m1, j_m1L, j_m1R, j_eqLL, j_ltLL, j_leLL, n_le0, n_le1, n_lt0, n_lt1, gc_v, gc_n, ↓reduceIte, and_true, true_and, and_self, or_self, or_false, false_or, not_false_eq_true, not_true_eq_false, false_and, and_false, Nat.reduceAdd, Nat.reduceEqDiff, Nat.reduceLeDiff, Nat.reduceLT]
        · simp (disch := first | omega | assumption) only [hg.1, x_r2 hg, x_t2 hg, x_r12 hg, x_t12 hg, x_l12 hg, x_r13 hg, x_t13 hg, x_l13 hg, hσ, h145, tA, rA8, tLw, rA9, rA0, tA1, lA1, rA1, tA2, lA2, rA2, tA3, lA3, rA3, tA4, lA4, rA4, tA5, lA5, rA5, tA6, lA6, rA6, tA7, lA7, rA7, tA8, tS, rS0, tS1, lS1, rS1, tS2, lS2, rS2, tS3, lS3, rS3, tS4, lS4, rS4, tS5, lS5, rS5, tS6, lS6, iB, iN, iG, iK, iR, cH, cF, cO, cA, cC, cT, cG, cM, cL, iN2, j3, c, Nat.le_refl, s47_111, em, gT_wI, gR_wI, gL_wI, gS_wI, gU_wI, gI_wI, gJ_wI, gI_wJ, gJ_wJ, gR_wJ, gT_wJ, gL_wJ, gS_wJ, gU_wJ, gI_wR, gJ_wR, gR_wR, gT_wR, gL_wR, gS_wR, gU_wR, wI_wI, wJ_wJ, wR_wR, j_s, j_add, j_addL, j_addR, j_mulL, j_mulR, j_cl, j_clL, j_neg, j_negL, j_nn, j_lt, j_le, j_eq, j_ltL, j_ltR, j_leL, j_leR, j_eqL, j_eqR, j_m1, j_m1L, j_m1R, j_eqLL, j_ltLL, j_leLL, n_le0, n_le1, n_lt0, n_lt1, gc_v, gc_n, ↓reduceIte, and_true, true_and, and_self, or_self, or_false, false_or, not_false_eq_true, not_true_eq_false, false_and, and_false, Nat.reduceAdd, Nat.reduceEqDiff, Nat.reduceLeDiff, Nat.reduceLT]
      · by_cases z : b = k
        · subst z; exact j3
        · exact j2 b (by omega) b2
    · intro t ht J ⟨j1, j2, j3⟩
      try dsimp only
      obtain ⟨iN2, cH2⟩ := HN J j1
      have q1 := cH2 k (by omega)
      have q2 := cH2 (k + 1 + t) (by omega)
      have q3 := j2 (k + 1 + t) (by omega) (by omega)
      have F7 := lF_7 r (show k + 1 + t < N by omega)
      have I7 := lIn_7 r (N := N) (a := k) t (by omega)
      by_cases c : r k < r (k + 1 + t)
      · have c' : ¬ r (k + 1 + t) ≤ r k := Int32.not_le.mpr c
        refine ⟨up1 J 1221 k (Int32.ofNat (lIn r (lF r N) k (t + 1))), ?_, fun b b1 b2 => by rw [up1_nc _ _ _ b1]; exact j1 b b1 b2, fun b b1 b2 => by rw [up1_nj _ _ (by omega)]; exact j2 b b1 b2, up1_eq _ _ _ _⟩
        rw [lIn_s, if_pos c, s47_45]
        by_cases c2 : lIn r (lF r N) k t < 1 + lF r N (k + 1 + t)
        · simp (disch := first | omega | assumption) only [hg.1, x_r2 hg, x_t2 hg, x_r12 hg, x_t12 hg, x_l12 hg, x_r13 hg, x_t13 hg, x_l13 hg, hσ, h145, tA, rA8, tLw, rA9, rA0, tA1, lA1, rA1, tA2, lA2, rA2, tA3, lA3, rA3, tA4, lA4, rA4, tA5, lA5, rA5, tA6, lA6, rA6, tA7, lA7, rA7, tA8, tS, rS0, tS1, lS1, rS1, tS2, lS2, rS2, tS3, lS3, rS3, tS4, lS4, rS4, tS5, lS5, rS5, tS6, lS6, iB, iN, iG, iK, iR, cH, cF, cO, cA, cC, cT, cG, cM, cL, iN2, q1, q2, q3, j3, c', c2, s47_93, s47_94, gT_wI, gR_wI, gL_wI, gS_wI, gU_wI, gI_wI, gJ_wI, gI_wJ, gJ_wJ, gR_wJ, gT_wJ, gL_wJ, gS_wJ, gU_wJ, gI_wR, gJ_wR, gR_wR, gT_wR, gL_wR, gS_wR, gU_wR, wI_wI, wJ_wJ, wR_wR, j_s, j_add, j_addL, j_addR, j_mulL, j_mulR, j_cl, j_clL, j_neg, j_negL, j_nn, j_lt, j_le, j_eq, j_ltL, j_ltR, j_leL, j_leR, j_eqL, j_eqR, j_m1, j_m1L, j_m1R, j_eqLL, j_ltLL, j_leLL, n_le0, n_le1, n_lt0, n_lt1, gc_v, gc_n, ↓reduceIte, and_true, true_and, and_self, or_self, or_false, false_or, not_false_eq_true, not_true_eq_false, false_and, and_false, Nat.reduceAdd, Nat.reduceEqDiff, Nat.reduceLeDiff, Nat.reduceLT]
          rfl
        · simp (disch := first | omega | assumption) only [hg.1, x_r2 hg, x_t2 hg, x_r12 hg, x_t12 hg, x_l12 hg, x_r13 hg, x_t13 hg, x_l13 hg, hσ, h145, tA, rA8, tLw, rA9, rA0, tA1, lA1, rA1, tA2, lA2, rA2, tA3, lA3, rA3, tA4, lA4, rA4, tA5, lA5, rA5, tA6, lA6, rA6, tA7, lA7, rA7, tA8, tS, rS0, tS1, lS1, rS1, tS2, lS2, rS2, tS3, lS3, rS3, tS4, lS4, rS4, tS5, lS5, rS5, tS6, lS6, iB, iN, iG, iK, iR, cH, cF, cO, cA, cC, cT, cG, cM, cL, iN2, q1, q2, q3, j3, c', c2, s47_93, s47_94, gT_wI, gR_wI, gL_wI, gS_wI, gU_wI, gI_wI, gJ_wI, gI_wJ, gJ_wJ, gR_wJ, gT_wJ, gL_wJ, gS_wJ, gU_wJ, gI_wR, gJ_wR, gR_wR, gT_wR, gL_wR, gS_wR, gU_wR, wI_wI, wJ_wJ, wR_wR, j_s, j_add, j_addL, j_addR, j_mulL, j_mulR, j_cl, j_clL, j_neg, j_negL, j_nn, j_lt, j_le, j_eq, j_ltL, j_ltR, j_leL, j_leR, j_eqL, j_eqR, j_m1, j_m1L, j_m1R, j_eqLL, j_ltLL, j_leLL, n_le0, n_le1, n_lt0, n_lt1, gc_v, gc_n, ↓reduceIte, and_true, true_and, and_self, or_self, or_false, false_or, not_false_eq_true, not_true_eq_false, false_and, and_false, Nat.reduceAdd, Nat.reduceEqDiff, Nat.reduceLeDiff, Nat.reduceLT]
          rfl
      · refine ⟨J, ?_, j1, j2, ?_⟩
        · have c' : r (k + 1 + t) ≤ r k := Int32.not_lt.mp c
          rw [s47_45]
          simp (disch := first | omega | assumption) only [hg.1, x_r2 hg, x_t2 hg, x_r12 hg, x_t12 hg, x_l12 hg, x_r13 hg, x_t13 hg, x_l13 hg, hσ, h145, tA, rA8, tLw, rA9, rA0, tA1, lA1, rA1, tA2, lA2, rA2, tA3, lA3, rA3, tA4, lA4, rA4, tA5, lA5, rA5, tA6, lA6, rA6, tA7, lA7, rA7, tA8, tS, rS0, tS1, lS1, rS1, tS2, lS2, rS2, tS3, lS3, rS3, tS4, lS4, rS4, tS5, lS5, rS5, tS6, lS6, iB, iN, iG, iK, iR, cH, cF, cO, cA, cC, cT, cG, cM, cL, iN2, q1, q2, c', s47_94, gT_wI, gR_wI, gL_wI, gS_wI, gU_wI, gI_wI, gJ_wI, gI_wJ, gJ_wJ, gR_wJ, gT_wJ, gL_wJ, gS_wJ, gU_wJ, gI_wR, gJ_wR, gR_wR, gT_wR, gL_wR, gS_wR, gU_wR, wI_wI, wJ_wJ, wR_wR, j_s, j_add, j_addL, j_addR, j_mulL, j_mulR, j_cl, j_clL, j_neg, j_negL, j_nn, j_lt, j_le, j_eq, j_ltL, j_ltR, j_leL, j_leR, j_eqL, j_eqR, j_m1, j_m1L, j_m1R, j_eqLL, j_ltLL, j_leLL, n_le0, n_le1, n_lt0, n_lt1, gc_v, gc_n, ↓reduceIte, and_true, true_and, and_self, or_self, or_false, false_or, not_false_eq_true, not_true_eq_false, false_and, and_false, Nat.reduceAdd, Nat.reduceEqDiff, Nat.reduceLeDiff, Nat.reduceLT]
          rfl
        · rw [lIn_s, if_neg c]; exact j3
theorem x46 {D : gdD} : XOk 46 [] D (.int (vLad D)) := by
  intro d h hd hi hD
  obtain ⟨h', e, q, -⟩ := sp47 hi hD (d := d - 1) (by omega)
  obtain ⟨d, rfl⟩ : ∃ e, d = e + 1 := ⟨d - 1, by omega⟩
  refine ⟨h', ?_, q⟩
  rw [r46, s46_0, show d + 1 - 1 = d from rfl] at *
  rw [e, gc_v, s46_4, if_pos hi.1.1]
theorem x72 {D : gdD} {k : Nat} (hk : k < 2147483648) : XOk 72 [.int (Int32.ofNat k)] D (.int (vRung D k)) := by
  intro d h hd hi hD
  obtain ⟨a, σ, m, h145, hσ, hs, hx, hr, hm, hl, hE, ha, hT9⟩ := hi.nw hD
  have hg := hi.1
  have hz : 4 ≤ gS h := by have := hi.2.2.2.2.2.2.2.2.2.2; omega
  obtain ⟨d, rfl⟩ : ∃ e, d = e + 1 := ⟨d - 1, by omega⟩
  obtain ⟨⟨hA1, hA2, hS1⟩, ⟨tA, rA8, tLw, rA9⟩, ⟨rA0, tA1, lA1⟩, ⟨rA1, tA2, lA2⟩, ⟨rA2, tA3, lA3⟩, ⟨rA3, tA4, lA4⟩, ⟨rA4, tA5, lA5⟩, ⟨rA5, tA6, lA6⟩, ⟨rA6, tA7, lA7⟩, ⟨rA7, tA8⟩, tS, ⟨rS0, tS1, lS1⟩, ⟨rS1, tS2, lS2⟩, ⟨rS2, tS3, lS3⟩, ⟨rS3, tS4, lS4⟩, ⟨rS4, tS5, lS5⟩, ⟨rS5, tS6, lS6⟩⟩ := id hs
  obtain ⟨⟨hB, hN⟩, ⟨iB, iN⟩, iG, iK, iR, cH, cF, cO, cA, cC, cW, cT, cG, cM, cL⟩ := id hx
  obtain ⟨h', e47, q, hR⟩ := sp47 hi hD (d := d) (by omega)
  have e53 := sp53 hg (d := d) (by omega) (v := Int32.ofNat k) (lo := 0) (hi := 2147483647) (by rw [j_neg (by omega)]; exact fun z => z) (by rw [j_ltL (by omega) (by omega)]; omega)
  refine ⟨h', ?_, q⟩
  have hg' := (hi.q q).1
  have hL7 := lL_7 (dNow D) (eN (dE D)) (eN (dE D)) (Nat.le_refl _)
  unfold vLad at e47
  unfold vRung
  rw [r72, s72_0]
  by_cases c : lL (dNow D) (eN (dE D)) (eN (dE D)) ≤ k
  · simp (disch := first | omega | assumption) only [hg.1, e53, s72_9, e47, s72_14, c, s72_27, gT_wI, gR_wI, gL_wI, gS_wI, gU_wI, gI_wI, gJ_wI, gI_wJ, gJ_wJ, gR_wJ, gT_wJ, gL_wJ, gS_wJ, gU_wJ, gI_wR, gJ_wR, gR_wR, gT_wR, gL_wR, gS_wR, gU_wR, wI_wI, wJ_wJ, wR_wR, j_s, j_add, j_addL, j_addR, j_mulL, j_mulR, j_cl, j_clL, j_neg, j_negL, j_nn, j_lt, j_le, j_eq, j_ltL, j_ltR, j_leL, j_leR, j_eqL, j_eqR, j_m1, j_m1L, j_m1R, j_eqLL, j_ltLL, j_leLL, n_le0, n_le1, n_lt0, n_lt1, gc_v, gc_n, ↓reduceIte, and_true, true_and, and_self, or_self, or_false, false_or, not_false_eq_true, not_true_eq_false, false_and, and_false, Nat.reduceAdd, Nat.reduceEqDiff, Nat.reduceLeDiff, Nat.reduceLT]
  · have e := hR k (by omega)
    simp (disch := first | omega | assumption) only [hg.1, hg'.1, x_r13 hg', x_t13 hg', x_l13 hg', e53, s72_9, e47, s72_14, c, e, s72_27, gT_wI, gR_wI, gL_wI, gS_wI, gU_wI, gI_wI, gJ_wI, gI_wJ, gJ_wJ, gR_wJ, gT_wJ, gL_wJ, gS_wJ, gU_wJ, gI_wR, gJ_wR, gR_wR, gT_wR, gL_wR, gS_wR, gU_wR, wI_wI, wJ_wJ, wR_wR, j_s, j_add, j_addL, j_addR, j_mulL, j_mulR, j_cl, j_clL, j_neg, j_negL, j_nn, j_lt, j_le, j_eq, j_ltL, j_ltR, j_leL, j_leR, j_eqL, j_eqR, j_m1, j_m1L, j_m1R, j_eqLL, j_ltLL, j_leLL, n_le0, n_le1, n_lt0, n_lt1, gc_v, gc_n, ↓reduceIte, and_true, true_and, and_self, or_self, or_false, false_or, not_false_eq_true, not_true_eq_false, false_and, and_false, Nat.reduceAdd, Nat.reduceEqDiff, Nat.reduceLeDiff, Nat.reduceLT]
theorem x72a {D : gdD} {v : Int32} (hv : v < 0) : XNo 72 [.int v] D 25 := by
  intro d h hd hi hD
  obtain ⟨a, σ, m, h145, hσ, hs, hx, hr, hm, hl, hE, ha, hT9⟩ := hi.nw hD
  have hg := hi.1
  have hz : 4 ≤ gS h := by have := hi.2.2.2.2.2.2.2.2.2.2; omega
  obtain ⟨d, rfl⟩ : ∃ e, d = e + 1 := ⟨d - 1, by omega⟩
  obtain ⟨⟨hA1, hA2, hS1⟩, ⟨tA, rA8, tLw, rA9⟩, ⟨rA0, tA1, lA1⟩, ⟨rA1, tA2, lA2⟩, ⟨rA2, tA3, lA3⟩, ⟨rA3, tA4, lA4⟩, ⟨rA4, tA5, lA5⟩, ⟨rA5, tA6, lA6⟩, ⟨rA6, tA7, lA7⟩, ⟨rA7, tA8⟩, tS, ⟨rS0, tS1, lS1⟩, ⟨rS1, tS2, lS2⟩, ⟨rS2, tS3, lS3⟩, ⟨rS3, tS4, lS4⟩, ⟨rS4, tS5, lS5⟩, ⟨rS5, tS6, lS6⟩⟩ := id hs
  obtain ⟨⟨hB, hN⟩, ⟨iB, iN⟩, iG, iK, iR, cH, cF, cO, cA, cC, cW, cT, cG, cM, cL⟩ := id hx
  rw [r72, s72_0]
  simp (disch := first | omega | assumption) only [hg.1, x_r13 hg, x_t13 hg, x_l13 hg, hσ, h145, tA, rA8, tLw, rA9, rA0, tA1, lA1, rA1, tA2, lA2, rA2, tA3, lA3, rA3, tA4, lA4, rA4, tA5, lA5, rA5, tA6, lA6, rA6, tA7, lA7, rA7, tA8, tS, rS0, tS1, lS1, rS1, tS2, lS2, rS2, tS3, lS3, rS3, tS4, lS4, rS4, tS5, lS5, rS5, tS6, lS6, iB, iN, iG, iK, iR, cH, cF, cO, cA, cC, cT, cG, cM, cL, sp53n hg hz (d := d) (by omega) (hi := 2147483647) (Or.inl hv), gc_x, gx_n (k := 72) (pc := 6) (t := 25) rfl, gT_wI, gR_wI, gL_wI, gS_wI, gU_wI, gI_wI, gJ_wI, gI_wJ, gJ_wJ, gR_wJ, gT_wJ, gL_wJ, gS_wJ, gU_wJ, gI_wR, gJ_wR, gR_wR, gT_wR, gL_wR, gS_wR, gU_wR, wI_wI, wJ_wJ, wR_wR, j_s, j_add, j_addL, j_addR, j_mulL, j_mulR, j_cl, j_clL, j_neg, j_negL, j_nn, j_lt, j_le, j_eq, j_ltL, j_ltR, j_leL, j_leR, j_eqL, j_eqR, j_m1, j_m1L, j_m1R, j_eqLL, j_ltLL, j_leLL, n_le0, n_le1, n_lt0, n_lt1, gc_v, gc_n, ↓reduceIte, and_true, true_and, and_self, or_self, or_false, false_or, not_false_eq_true, not_true_eq_false, false_and, and_false, Nat.reduceAdd, Nat.reduceEqDiff, Nat.reduceLeDiff, Nat.reduceLT]

/-! ===== mates: the class ===== -/
set_option maxRecDepth 100000
theorem sb_t : ∀ s, s < 128 → ∀ q, q < 7 → bt (Int32.ofNat s) q = s.testBit q := by decide +kernel
theorem sb_q {s q : Nat} (hs : s < 128) (hq : q < 7) : ((Int32.ofNat s >>> (Int32.ofNat q &&& 31)) &&& 1 = 0) = (s.testBit q = false) := by
  rw [← sb_t s hs q hq]
  exact propext (b_q0 (by omega))
theorem sb_r : ∀ s, s < 128 → ∀ p, p < 7 → s.testBit p = true → Int32.ofNat s &&& (((1 : Int32) <<< (Int32.ofNat p &&& 31)) ^^^ (-1)) = Int32.ofNat (mX s p) := by decide +kernel
theorem sb_x : ∀ s, s < 128 → s ≠ 0 → (Int32.ofNat s ^^^ (-1)) &&& (Int32.ofNat s - 1) = Int32.ofNat (2 ^ mLow s - 1) := by decide +kernel
theorem sp3 {h : gd_H} {d : Nat} (hd : 1 ≤ d) {s : Nat} (hs : s < 128) (h0 : s ≠ 0) : run gd_P0 d 3 [.int (Int32.ofNat s)] h = some (.inl (some (.int (Int32.ofNat (mLow s)))), h) := by
  obtain ⟨d, rfl⟩ : ∃ e, d = e + 1 := ⟨d - 1, by omega⟩
  have l1 := (mLow_p s hs h0).1
  have lx := sb_x s hs h0
  rw [r3, s3_0, lx]
  generalize mLow s = p at *
  have c7 : p = 0 ∨ p = 1 ∨ p = 2 ∨ p = 3 ∨ p = 4 ∨ p = 5 ∨ p = 6 := by omega
  rcases c7 with rfl | rfl | rfl | rfl | rfl | rfl | rfl
  · rw [if_neg (by decide)]; rfl
  · rw [if_pos (by decide), if_pos (by decide), s3_34, if_pos (by decide), s3_49, if_pos (by decide), s3_62, if_pos (by decide), s3_74]; rfl
  · rw [if_pos (by decide), if_pos (by decide), s3_34, if_pos (by decide), s3_49, if_pos (by decide), s3_62, if_pos (by decide), s3_74]; rfl
  · rw [if_pos (by decide), if_pos (by decide), s3_34, if_pos (by decide), s3_49, if_pos (by decide), s3_62, if_neg (by decide), s3_74]; rfl
  · rw [if_pos (by decide), if_pos (by decide), s3_34, if_pos (by decide), s3_49, if_pos (by decide), s3_62, if_neg (by decide), s3_74]; rfl
  · rw [if_pos (by decide), if_pos (by decide), s3_34, if_pos (by decide), s3_49, if_neg (by decide), s3_62, if_pos (by decide), s3_74]; rfl
  · rw [if_pos (by decide), if_pos (by decide), s3_34, if_pos (by decide), s3_49, if_neg (by decide), s3_62, if_pos (by decide), s3_74]; rfl
/-- odd or even -/
def mPar (s : Nat) : Nat := fo (fun p x => if s.testBit p = true then 1 - x else x) 7 0
theorem mPar_x : ∀ s, s < 128 → ∀ p, p < 7 → s.testBit p = true → mPar (mX s p) = 1 - mPar s := by decide +kernel
theorem mPar_1 : ∀ s, s < 128 → mPar s ≤ 1 := by decide +kernel
def oE : Option Nat → Int32
  | none => -1
  | some n => Int32.ofNat n
/-- the search's cells: what else is untouched, the best so far, the mates now -/
def mI (h : gd_H) (I : Nat → Nat → Int32) (b : Option (Nat × gdR)) (f : gdR) : Prop := (∀ x, x ≠ 1212 → x ≠ 1213 → x ≠ 1214 → I x = gI h x) ∧ I 1212 3 = oE (o1 b) ∧ (∀ j, j < 7 → I 1213 j = f j) ∧ ∀ v g, b = some (v, g) → v ≤ 1000000 ∧ ∀ j, j < 7 → I 1214 j = g j
theorem mZ_ge {r : gdR} {N s al c v : Nat} {f g : gdR} (h : mZ r N s al c f = some (v, g)) : c ≤ v := by
  have e := mZ_c r N s al c f
  rw [h] at e
  cases hm : mC r N s al with
  | none => rw [hm] at e; cases e
  | some n =>
    rw [hm] at e
    have e2 : some v = some (c + n) := e
    injection e2 with e3
    omega
theorem dis_i {x y : Nat} (hx : x ≤ 999) (hy : y ≤ 999) : (if 0 ≤ Int32.ofNat x - Int32.ofNat y then Int32.ofNat x - Int32.ofNat y else 0 - (Int32.ofNat x - Int32.ofNat y)) = Int32.ofNat ((x - y) + (y - x)) := by
  by_cases c : y ≤ x
  · rw [j_sub c, if_pos (by rw [j_nn (by omega)]; trivial), show y - x = 0 by omega, Nat.add_zero]
  · have e : Int32.ofNat x - Int32.ofNat y = -(Int32.ofNat (y - x)) := by
      rw [← j_sub (by omega : x ≤ y), Int32.neg_sub]
    have hn : ¬ 0 ≤ Int32.ofNat x - Int32.ofNat y := by
      rw [Int32.le_iff_toInt_le, Int32.toInt_sub, j_ti (by omega), j_ti (by omega), Int32.toInt_zero, Int.bmod_eq_of_le (by omega) (by omega)]
      omega
    rw [if_neg hn, e, show x - y = 0 by omega, Nat.zero_add, Int32.sub_eq_add_neg, Int32.neg_neg, Int32.zero_add]
/-- at an end, or no better -/
theorem sp174c {h : gd_H} (hg : XG h) {r : gdR} {N s al c d : Nat} {I : Nat → Nat → Int32} {b : Option (Nat × gdR)} {f : gdR} (hd : 1 ≤ d) (hc : c ≤ 1000000) (hI : mI h I b f) (v g) (hb : b = some (v, g)) (hv : v ≤ c) : ∃ I' f', run gd_P0 d 174 [.ref 1212, .int (Int32.ofNat s), .int (Int32.ofNat al), .int (Int32.ofNat c)] (wI h I) = some (.inl none, wI h I') ∧ mI h I' (bet b (mZ r N s al c f)) f' ∧ ∀ j, s.testBit j = false → f' j = f j := by
  obtain ⟨d, rfl⟩ : ∃ e, d = e + 1 := ⟨d - 1, by omega⟩
  obtain ⟨i1, i2, i3, i4⟩ := id hI
  have v1 := (i4 v g hb).1
  refine ⟨I, f, ?_, ?_, fun _ _ => rfl⟩
  · subst hb
    have i5 : I 1212 3 = Int32.ofNat v := i2
    rw [r174, s174_0]
    simp (disch := first | omega | assumption) only [(x_t5 hg), i5, gT_wI, gR_wI, gL_wI, gS_wI, gU_wI, gI_wI, gJ_wI, gI_wJ, gJ_wJ, gR_wJ, gT_wJ, gL_wJ, gS_wJ, gU_wJ, gI_wR, gJ_wR, gR_wR, gT_wR, gL_wR, gS_wR, gU_wR, wI_wI, wJ_wJ, wR_wR, j_s, j_add, j_addL, j_addR, j_mulL, j_mulR, j_cl, j_clL, j_neg, j_negL, j_nn, j_lt, j_le, j_eq, j_ltL, j_ltR, j_leL, j_leR, j_eqL, j_eqR, j_m1, j_m1L, j_m1R, j_eqLL, j_ltLL, j_leLL, n_le0, n_le1, n_lt0, n_lt1, gc_v, gc_n, ↓reduceIte, and_true, true_and, and_self, or_self, or_false, false_or, not_false_eq_true, not_true_eq_false, false_and, and_false, Nat.reduceAdd, Nat.reduceEqDiff, Nat.reduceLeDiff, Nat.reduceLT]
  · have e : bet b (mZ r N s al c f) = b := by
      subst hb
      cases hm : mZ r N s al c f with
      | none => rfl
      | some z =>
        obtain ⟨v2, g2⟩ := z
        have := mZ_ge hm
        show (if v2 < v then some (v2, g2) else some (v, g)) = _
        rw [if_neg (by omega)]
    rw [e]; exact hI
theorem sp174z {h : gd_H} (hg : XG h) {r : gdR} {N c d : Nat} {I : Nat → Nat → Int32} {b : Option (Nat × gdR)} {f : gdR} (hd : 1 ≤ d) (hc : c ≤ 1000000) (hI : mI h I b f) (hb : ∀ v g, b = some (v, g) → c < v) : ∃ I' f', run gd_P0 d 174 [.ref 1212, .int (Int32.ofNat 0), .int (Int32.ofNat 0), .int (Int32.ofNat c)] (wI h I) = some (.inl none, wI h I') ∧ mI h I' (bet b (mZ r N 0 0 c f)) f' ∧ ∀ j, (0 : Nat).testBit j = false → f' j = f j := by
  obtain ⟨d, rfl⟩ : ∃ e, d = e + 1 := ⟨d - 1, by omega⟩
  obtain ⟨i1, i2, i3, i4⟩ := id hI
  obtain ⟨y1, y2, y3, y4, y5, y6⟩ := hg.2.2.2.2.2.2.1
  have eb : bet b (mZ r N 0 0 c f) = some (c, f) := by
    unfold mZ
    rw [mB_z, if_pos rfl]
    cases b with
    | none => rfl
    | some z =>
      obtain ⟨v, g⟩ := z
      show (if c < v then some (c, f) else some (v, g)) = _
      rw [if_pos (hb v g rfl)]
  refine ⟨cpy (up1 I 1212 3 (Int32.ofNat c)) 1213 0 1214 0 7, f, ?_, ?_, fun _ _ => rfl⟩
  rotate_left
  · rw [eb]
    refine ⟨fun x x1 x2 x3 => ?_, ?_, fun j hj => ?_, fun v g e => ?_⟩
    · rw [cpy_ne _ x3, up1_nc _ _ _ x1]; exact i1 x x1 x2 x3
    · rw [cpy_ne _ (by omega), up1_eq]; rfl
    · rw [cpy_ne _ (by omega), up1_nc _ _ _ (by omega)]; exact i3 j hj
    · injection e with e
      injection e with e1 e2
      subst e1; subst e2
      exact ⟨hc, fun j hj => by rw [cpy_in _ hj, up1_nc _ _ _ (by omega)]; exact i3 j hj⟩
  · rw [r174, s174_0]
    cases b with
    | none =>
      have i5 : I 1212 3 = -1 := i2
      simp (disch := first | omega | assumption) only [(x_t5 hg), i5, s174_17, y1, y2, y3, y4, y5, y6, s174_41, gT_wI, gR_wI, gL_wI, gS_wI, gU_wI, gI_wI, gJ_wI, gI_wJ, gJ_wJ, gR_wJ, gT_wJ, gL_wJ, gS_wJ, gU_wJ, gI_wR, gJ_wR, gR_wR, gT_wR, gL_wR, gS_wR, gU_wR, wI_wI, wJ_wJ, wR_wR, j_s, j_add, j_addL, j_addR, j_mulL, j_mulR, j_cl, j_clL, j_neg, j_negL, j_nn, j_lt, j_le, j_eq, j_ltL, j_ltR, j_leL, j_leR, j_eqL, j_eqR, j_m1, j_m1L, j_m1R, j_eqLL, j_ltLL, j_leLL, n_le0, n_le1, n_lt0, n_lt1, gc_v, gc_n, ↓reduceIte, and_true, true_and, and_self, or_self, or_false, false_or, not_false_eq_true, not_true_eq_false, false_and, and_false, Nat.reduceAdd, Nat.reduceEqDiff, Nat.reduceLeDiff, Nat.reduceLT]
    | some z =>
      obtain ⟨v, g⟩ := z
      have i5 : I 1212 3 = Int32.ofNat v := i2
      have v1 := (i4 v g rfl).1
      have v2 := hb v g rfl
      simp (disch := first | omega | assumption) only [(x_t5 hg), i5, s174_17, y1, y2, y3, y4, y5, y6, s174_41, gT_wI, gR_wI, gL_wI, gS_wI, gU_wI, gI_wI, gJ_wI, gI_wJ, gJ_wJ, gR_wJ, gT_wJ, gL_wJ, gS_wJ, gU_wJ, gI_wR, gJ_wR, gR_wR, gT_wR, gL_wR, gS_wR, gU_wR, wI_wI, wJ_wJ, wR_wR, j_s, j_add, j_addL, j_addR, j_mulL, j_mulR, j_cl, j_clL, j_neg, j_negL, j_nn, j_lt, j_le, j_eq, j_ltL, j_ltR, j_leL, j_leR, j_eqL, j_eqR, j_m1, j_m1L, j_m1R, j_eqLL, j_ltLL, j_leLL, n_le0, n_le1, n_lt0, n_lt1, gc_v, gc_n, ↓reduceIte, and_true, true_and, and_self, or_self, or_false, false_or, not_false_eq_true, not_true_eq_false, false_and, and_false, Nat.reduceAdd, Nat.reduceEqDiff, Nat.reduceLeDiff, Nat.reduceLT]
theorem sp174 {h : gd_H} {D : gdD} {a σ m : Nat} (hg : XG h) (hs : SS h a σ) (hx : XC (gI h) a σ (dE D) (-1) (dNow D)) (hr : RI (dE D) m (dNow D)) (hR2 : gR h 1212 2 = a) : ∀ k s al c I b f d, k + 3 ≤ d → s < 128 → s ≤ k → (∀ q, s.testBit q = true → q < eN (dE D)) → al = mPar s → c + 1000 * k ≤ 1000000 → mI h I b f → ∃ I' f', run gd_P0 d 174 [.ref 1212, .int (Int32.ofNat s), .int (Int32.ofNat al), .int (Int32.ofNat c)] (wI h I) = some (.inl none, wI h I') ∧ mI h I' (bet b (mZ (dNow D) (eN (dE D)) s al c f)) f' ∧ ∀ j, s.testBit j = false → f' j = f j := by
  have PR : ∀ {k s al c I} {b : Option (Nat × gdR)} {f d}, k + 3 ≤ d → c + 1000 * k ≤ 1000000 → mI h I b f → ¬ (∀ v g, b = some (v, g) → c < v) → ∃ I' f', run gd_P0 d 174 [.ref 1212, .int (Int32.ofNat s), .int (Int32.ofNat al), .int (Int32.ofNat c)] (wI h I) = some (.inl none, wI h I') ∧ mI h I' (bet b (mZ (dNow D) (eN (dE D)) s al c f)) f' ∧ ∀ j, s.testBit j = false → f' j = f j := by
    intro k s al c I b f d hd hc hI hn
    cases b with
    | none => exact absurd (fun v g e => by cases e) hn
    | some z =>
      obtain ⟨v, g⟩ := z
      refine sp174c hg (by omega) (by omega) hI v g rfl ?_
      by_cases x : v ≤ c
      · exact x
      · exact absurd (fun v2 g2 e => by injection e with e; injection e with e1 e2; omega) hn
  obtain ⟨y1, y2, y3, y4, y5, y6⟩ := hg.2.2.2.2.2.2.1
  obtain ⟨⟨hA1, hA2, hS1⟩, ⟨tA, rA8, tLw, rA9⟩, ⟨rA0, tA1, lA1⟩, ⟨rA1, tA2, lA2⟩, ⟨rA2, tA3, lA3⟩, ⟨rA3, tA4, lA4⟩, ⟨rA4, tA5, lA5⟩, ⟨rA5, tA6, lA6⟩, ⟨rA6, tA7, lA7⟩, ⟨rA7, tA8⟩, tS, ⟨rS0, tS1, lS1⟩, ⟨rS1, tS2, lS2⟩, ⟨rS2, tS3, lS3⟩, ⟨rS3, tS4, lS4⟩, ⟨rS4, tS5, lS5⟩, ⟨rS5, tS6, lS6⟩⟩ := id hs
  intro k
  induction k with
  | zero =>
    intro s al c I b f d hd h1 h2 hN ha hc hI
    by_cases hb : ∀ v g, b = some (v, g) → c < v
    · have e : s = 0 := by omega
      subst e
      have e2 : al = 0 := ha
      subst e2
      exact sp174z hg (by omega) (by omega) hI hb
    · exact PR hd hc hI hb
  | succ k ih =>
    intro s al c I b f d hd h1 h2 hN ha hc hI
    by_cases hb : ∀ v g, b = some (v, g) → c < v
    · by_cases e : s = 0
      · subst e
        have e2 : al = 0 := ha
        subst e2
        exact sp174z hg (by omega) (by omega) hI hb
      · obtain ⟨d, rfl⟩ : ∃ e, d = e + 1 := ⟨d - 1, by omega⟩
        obtain ⟨l1, l2⟩ := mLow_p s h1 e
        have l3 := hN _ l2
        have x1 := mX_lt s h1 _ l1 l2
        have xr := sb_r s h1 _ l1 l2
        have xp := mPar_x s h1 _ l1 l2
        have p1 := mPar_1 s h1
        have e3 := sp3 (h := wI h I) (d := d) (by omega) h1 e
        have hN7 : eN (dE D) ≤ 7 := hx.1.2
        rw [mZ_eq _ _ s al c f h1 e]
        obtain ⟨i1, i2, i3, i4⟩ := id hI
        have fx : ∀ {J : Nat → Nat → Int32}, (∀ x, x ≠ 1212 → x ≠ 1213 → x ≠ 1214 → J x = gI h x) → J σ 7 = Int32.ofNat (eN (dE D)) ∧ ∀ p, p < 7 → J (a + 2) p = dNow D p := by
          intro J hJ
          obtain ⟨⟨hB, hN⟩, ⟨iB, iN⟩, iG, iK, iR, cH, cF, cO, cA, cC, cW, cT, cG, cM, cL⟩ := id hx
          rw [hJ σ (by omega) (by omega) (by omega), hJ (a + 2) (by omega) (by omega) (by omega)]
          exact ⟨iN, cH⟩
        have L := lp_e (fun t J => go gd_P0 d 174 64 [.ref 1212, .null, .int (Int32.ofNat al), .int (Int32.ofNat c), .int (Int32.ofNat (mLow s)), .int (Int32.ofNat (mX s (mLow s))), .int (Int32.ofNat (mLow s + 1 + t))] [] (wI h J)) (fun t J => ∃ f', mI h J (bet b (fo (fun t x => bet x (mY (dNow D) (eN (dE D)) s al c f t)) t none)) f' ∧ ∀ j, s.testBit j = false → f' j = f j) (eN (dE D) - (mLow s + 1)) I ⟨f, hI, fun _ _ => rfl⟩ ?_
        · obtain ⟨J, e4, f', hJ, hf⟩ := L
          obtain ⟨j1, j2, j3, j4⟩ := id hJ
          obtain ⟨iN, cH⟩ := fx j1
          have s0 : run gd_P0 (d + 1) 174 [.ref 1212, .int (Int32.ofNat s), .int (Int32.ofNat al), .int (Int32.ofNat c)] (wI h I) = go gd_P0 d 174 64 [.ref 1212, .null, .int (Int32.ofNat al), .int (Int32.ofNat c), .int (Int32.ofNat (mLow s)), .int (Int32.ofNat (mX s (mLow s))), .int (Int32.ofNat (mLow s + 1 + 0))] [] (wI h I) := by
            refine Eq.trans ?_ ((s174_64 _ _ _ (.int (Int32.ofNat s)) ..).trans (s174_64 ..).symm)
            have z : (Int32.ofNat s = 0) = False := by
              rw [show (0 : Int32) = Int32.ofNat 0 from rfl, j_eq (by omega) (by omega)]
              exact eq_false e
            rw [r174, s174_0]
            cases b with
            | none =>
              have i5 : I 1212 3 = -1 := i2
              simp (disch := first | omega | assumption) only [(x_t5 hg), i5, s174_17, z, e3, s174_46, xr, gT_wI, gR_wI, gL_wI, gS_wI, gU_wI, gI_wI, gJ_wI, gI_wJ, gJ_wJ, gR_wJ, gT_wJ, gL_wJ, gS_wJ, gU_wJ, gI_wR, gJ_wR, gR_wR, gT_wR, gL_wR, gS_wR, gU_wR, wI_wI, wJ_wJ, wR_wR, j_s, j_add, j_addL, j_addR, j_mulL, j_mulR, j_cl, j_clL, j_neg, j_negL, j_nn, j_lt, j_le, j_eq, j_ltL, j_ltR, j_leL, j_leR, j_eqL, j_eqR, j_m1, j_m1L, j_m1R, j_eqLL, j_ltLL, j_leLL, n_le0, n_le1, n_lt0, n_lt1, gc_v, gc_n, ↓reduceIte, and_true, true_and, and_self, or_self, or_false, false_or, not_false_eq_true, not_true_eq_false, false_and, and_false, Nat.reduceAdd, Nat.reduceEqDiff, Nat.reduceLeDiff, Nat.reduceLT]
            | some w =>
              obtain ⟨v, g⟩ := w
              have i5 : I 1212 3 = Int32.ofNat v := i2
              have v1 := (i4 v g rfl).1
              have v2 := hb v g rfl
              simp (disch := first | omega | assumption) only [(x_t5 hg), i5, s174_17, z, e3, s174_46, xr, gT_wI, gR_wI, gL_wI, gS_wI, gU_wI, gI_wI, gJ_wI, gI_wJ, gJ_wJ, gR_wJ, gT_wJ, gL_wJ, gS_wJ, gU_wJ, gI_wR, gJ_wR, gR_wR, gT_wR, gL_wR, gS_wR, gU_wR, wI_wI, wJ_wJ, wR_wR, j_s, j_add, j_addL, j_addR, j_mulL, j_mulR, j_cl, j_clL, j_neg, j_negL, j_nn, j_lt, j_le, j_eq, j_ltL, j_ltR, j_leL, j_leR, j_eqL, j_eqR, j_m1, j_m1L, j_m1R, j_eqLL, j_ltLL, j_leLL, n_le0, n_le1, n_lt0, n_lt1, gc_v, gc_n, ↓reduceIte, and_true, true_and, and_self, or_self, or_false, false_or, not_false_eq_true, not_true_eq_false, false_and, and_false, Nat.reduceAdd, Nat.reduceEqDiff, Nat.reduceLeDiff, Nat.reduceLT]
          rw [s0, e4, s174_64, ← bet_a]
          rw [show mLow s + 1 + (eN (dE D) - (mLow s + 1)) = eN (dE D) by omega]
          have hJ2 : mI h (up1 J 1213 (mLow s) (-1)) (bet b (fo (fun t x => bet x (mY (dNow D) (eN (dE D)) s al c f t)) (eN (dE D) - (mLow s + 1)) none)) (rw1 f' (mLow s) (-1)) := by
            refine ⟨fun x z1 z2 z3 => by rw [up1_nc _ _ _ z2]; exact j1 x z1 z2 z3, by rw [up1_nc _ _ _ (by omega)]; exact j2, fun j hj => ?_, fun v g e => by rw [up1_nc _ _ _ (by omega)]; exact j4 v g e⟩
            unfold rw1
            by_cases z : j = mLow s
            · rw [if_pos z, z, up1_eq]
            · rw [if_neg z, up1_nj _ _ z]; exact j3 j hj
          have hf2 : ∀ j, s.testBit j = false → rw1 f' (mLow s) (-1) j = f j := by
            intro j hj
            rw [rw1_ne _ _ (fun z => by rw [z, l2] at hj; cases hj)]
            exact hf j hj
          by_cases ca : al = 0
          · refine ⟨up1 J 1213 (mLow s) (-1), rw1 f' (mLow s) (-1), ?_, ?_, hf2⟩
            rotate_left
            · have : mA (dNow D) (eN (dE D)) s al c f = none := if_neg (by omega)
              rw [this]
              exact hJ2
            · rw [ca]
              simp (disch := first | omega | assumption) only [(x_t5 hg), y1, y2, y3, hR2, tA, rA8, tLw, rA9, rA0, tA1, lA1, rA1, tA2, lA2, rA2, tA3, lA3, rA3, tA4, lA4, rA4, tA5, lA5, rA5, tA6, lA6, rA6, tA7, lA7, rA7, tA8, tS, rS0, tS1, lS1, rS1, tS2, lS2, rS2, tS3, lS3, rS3, tS4, lS4, rS4, tS5, lS5, rS5, tS6, lS6, iN, s174_176, gT_wI, gR_wI, gL_wI, gS_wI, gU_wI, gI_wI, gJ_wI, gI_wJ, gJ_wJ, gR_wJ, gT_wJ, gL_wJ, gS_wJ, gU_wJ, gI_wR, gJ_wR, gR_wR, gT_wR, gL_wR, gS_wR, gU_wR, wI_wI, wJ_wJ, wR_wR, j_s, j_add, j_addL, j_addR, j_mulL, j_mulR, j_cl, j_clL, j_neg, j_negL, j_nn, j_lt, j_le, j_eq, j_ltL, j_ltR, j_leL, j_leR, j_eqL, j_eqR, j_m1, j_m1L, j_m1R, j_eqLL, j_ltLL, j_leLL, n_le0, n_le1, n_lt0, n_lt1, gc_v, gc_n, ↓reduceIte, and_true, true_and, and_self, or_self, or_false, false_or, not_false_eq_true, not_true_eq_false, false_and, and_false, Nat.reduceAdd, Nat.reduceEqDiff, Nat.reduceLeDiff, Nat.reduceLT]
          · have ca1 : al = 1 := by omega
            have hN2 : ∀ q, (mX s (mLow s)).testBit q = true → q < eN (dE D) := by
              intro q hq
              refine hN q ?_
              rw [mX_bit] at hq
              by_cases z : mLow s = q
              · rw [← z]; exact l2
              · rw [decide_eq_false z] at hq
                simpa using hq
            obtain ⟨I', f2, e5, q1, q2⟩ := ih (mX s (mLow s)) 0 c _ _ _ d (by omega) (by omega) (by omega) hN2 (by omega) (by omega) hJ2
            · refine ⟨I', f2, ?_, ?_, fun j hj => ?_⟩
              · rw [ca1]
                have e6 : run gd_P0 d 174 [.ref 1212, .int (Int32.ofNat (mX s (mLow s))), .int 0, .int (Int32.ofNat c)] (wI h (up1 J 1213 (mLow s) (-1))) = _ := e5
                simp (disch := first | omega | assumption) only [(x_t5 hg), y1, y2, y3, hR2, tA, rA8, tLw, rA9, rA0, tA1, lA1, rA1, tA2, lA2, rA2, tA3, lA3, rA3, tA4, lA4, rA4, tA5, lA5, rA5, tA6, lA6, rA6, tA7, lA7, rA7, tA8, tS, rS0, tS1, lS1, rS1, tS2, lS2, rS2, tS3, lS3, rS3, tS4, lS4, rS4, tS5, lS5, rS5, tS6, lS6, iN, e6, s174_176, gT_wI, gR_wI, gL_wI, gS_wI, gU_wI, gI_wI, gJ_wI, gI_wJ, gJ_wJ, gR_wJ, gT_wJ, gL_wJ, gS_wJ, gU_wJ, gI_wR, gJ_wR, gR_wR, gT_wR, gL_wR, gS_wR, gU_wR, wI_wI, wJ_wJ, wR_wR, j_s, j_add, j_addL, j_addR, j_mulL, j_mulR, j_cl, j_clL, j_neg, j_negL, j_nn, j_lt, j_le, j_eq, j_ltL, j_ltR, j_leL, j_leR, j_eqL, j_eqR, j_m1, j_m1L, j_m1R, j_eqLL, j_ltLL, j_leLL, n_le0, n_le1, n_lt0, n_lt1, gc_v, gc_n, ↓reduceIte, and_true, true_and, and_self, or_self, or_false, false_or, not_false_eq_true, not_true_eq_false, false_and, and_false, Nat.reduceAdd, Nat.reduceEqDiff, Nat.reduceLeDiff, Nat.reduceLT]
              · have : mA (dNow D) (eN (dE D)) s al c f = mZ (dNow D) (eN (dE D)) (mX s (mLow s)) 0 c (rw1 f' (mLow s) (-1)) := by
                  unfold mA mZ
                  rw [if_pos ca1]
                  refine mB_f _ _ _ _ _ _ _ _ (by omega) (fun j hj => ?_)
                  unfold rw1
                  by_cases z : j = mLow s
                  · rw [if_pos z, if_pos z]
                  · rw [if_neg z, if_neg z]
                    refine (hf j ?_).symm
                    rw [mX_bit, decide_eq_false (fun w => z w.symm)] at hj
                    simpa using hj
                rw [this]
                exact q1
              · rw [q2 j (by rw [mX_bit, hj, decide_eq_false (fun w => by rw [w, hj] at l2; cases l2)]; rfl)]
                exact hf2 j hj
        · intro t ht J ⟨f', hJ, hf⟩
          try dsimp only
          obtain ⟨j1, j2, j3, j4⟩ := id hJ
          obtain ⟨iN, cH⟩ := fx j1
          have q7 : mLow s + 1 + t < 7 := by omega
          have xb : (mX s (mLow s)).testBit (mLow s + 1 + t) = s.testBit (mLow s + 1 + t) := by
            rw [mX_bit, decide_eq_false (by omega)]
            exact Bool.xor_false _
          have sq := sb_q (s := mX s (mLow s)) (by omega) q7
          rw [xb] at sq
          by_cases cb : s.testBit (mLow s + 1 + t) = true
          · obtain ⟨u1, u2⟩ := mX2 h1 e cb
            have xr2 := sb_r _ (show mX s (mLow s) < 128 by omega) _ q7 (by rw [xb]; exact cb)
            have xp2 := mPar_x _ (show mX s (mLow s) < 128 by omega) _ q7 (by rw [xb]; exact cb)
            obtain ⟨vp, vp1, vp2⟩ := hr.2.2.2.1 (mLow s) l1
            obtain ⟨vq, vq1, vq2⟩ := hr.2.2.2.1 (mLow s + 1 + t) q7
            have hp := (cH (mLow s) l1).trans vp2
            have hq := (cH (mLow s + 1 + t) q7).trans vq2
            have ed : mDis (dNow D) (mLow s) (mLow s + 1 + t) = (vp - vq) + (vq - vp) := by
              unfold mDis
              rw [vp2, vq2, j_cl (by omega), j_cl (by omega)]
            have di := dis_i vp1 vq1
            rw [cb] at sq
            have sq2 : ((Int32.ofNat (mX s (mLow s)) >>> (Int32.ofNat (mLow s + 1 + t) &&& 31)) &&& 1 = 0) = False := sq.trans (eq_false (by decide))
            have hJ2 : mI h (up1 (up1 J 1213 (mLow s) (Int32.ofNat (mLow s + 1 + t))) 1213 (mLow s + 1 + t) (Int32.ofNat (mLow s))) (bet b (fo (fun t x => bet x (mY (dNow D) (eN (dE D)) s al c f t)) t none)) (rw1 (rw1 f' (mLow s) (Int32.ofNat (mLow s + 1 + t))) (mLow s + 1 + t) (Int32.ofNat (mLow s))) := by
              refine ⟨fun x z1 z2 z3 => by rw [up1_nc _ _ _ z2, up1_nc _ _ _ z2]; exact j1 x z1 z2 z3, by rw [up1_nc _ _ _ (by omega), up1_nc _ _ _ (by omega)]; exact j2, fun j hj => ?_, fun v g e => by rw [up1_nc _ _ _ (by omega), up1_nc _ _ _ (by omega)]; exact j4 v g e⟩
              unfold rw1
              by_cases z : j = mLow s + 1 + t
              · rw [if_pos z, z, up1_eq]
              · rw [if_neg z, up1_nj _ _ z]
                by_cases z2 : j = mLow s
                · rw [if_pos z2, z2, up1_eq]
                · rw [if_neg z2, up1_nj _ _ z2]; exact j3 j hj
            have hN2 : ∀ q, (mX (mX s (mLow s)) (mLow s + 1 + t)).testBit q = true → q < eN (dE D) := by
              intro q hq
              refine hN q ?_
              rw [mX_bit, mX_bit] at hq
              by_cases z : mLow s = q
              · rw [← z]; exact l2
              · by_cases z2 : mLow s + 1 + t = q
                · rw [← z2]; exact cb
                · rw [decide_eq_false z, decide_eq_false z2] at hq
                  simpa using hq
            obtain ⟨I', f2, e5, g1, g2⟩ := ih (mX (mX s (mLow s)) (mLow s + 1 + t)) al (c + mDis (dNow D) (mLow s) (mLow s + 1 + t)) _ _ _ d (by omega) (by omega) (by omega) hN2 (by omega) (by omega) hJ2
            · refine ⟨I', ?_, f2, ?_, fun j hj => ?_⟩
              · rw [s174_64]
                rw [ed] at e5
                simp (disch := first | omega | assumption) only [(x_t5 hg), y1, y2, y3, hR2, tA, rA8, tLw, rA9, rA0, tA1, lA1, rA1, tA2, lA2, rA2, tA3, lA3, rA3, tA4, lA4, rA4, tA5, lA5, rA5, tA6, lA6, rA6, tA7, lA7, rA7, tA8, tS, rS0, tS1, lS1, rS1, tS2, lS2, rS2, tS3, lS3, rS3, tS4, lS4, rS4, tS5, lS5, rS5, tS6, lS6, iN, sq2, hp, hq, up1_nc _ _ _ (show a + 2 ≠ 1213 by omega), di, s174_146, xr2, e5, s174_150, gT_wI, gR_wI, gL_wI, gS_wI, gU_wI, gI_wI, gJ_wI, gI_wJ, gJ_wJ, gR_wJ, gT_wJ, gL_wJ, gS_wJ, gU_wJ, gI_wR, gJ_wR, gR_wR, gT_wR, gL_wR, gS_wR, gU_wR, wI_wI, wJ_wJ, wR_wR, j_s, j_add, j_addL, j_addR, j_mulL, j_mulR, j_cl, j_clL, j_neg, j_negL, j_nn, j_lt, j_le, j_eq, j_ltL, j_ltR, j_leL, j_leR, j_eqL, j_eqR, j_m1, j_m1L, j_m1R, j_eqLL, j_ltLL, j_leLL, n_le0, n_le1, n_lt0, n_lt1, gc_v, gc_n, ↓reduceIte, and_true, true_and, and_self, or_self, or_false, false_or, not_false_eq_true, not_true_eq_false, false_and, and_false, Nat.reduceAdd, Nat.reduceEqDiff, Nat.reduceLeDiff, Nat.reduceLT]
                rfl
              · rw [fo_s, ← bet_a]
                have : mY (dNow D) (eN (dE D)) s al c f t = mZ (dNow D) (eN (dE D)) (mX (mX s (mLow s)) (mLow s + 1 + t)) al (c + mDis (dNow D) (mLow s) (mLow s + 1 + t)) (rw1 (rw1 f' (mLow s) (Int32.ofNat (mLow s + 1 + t))) (mLow s + 1 + t) (Int32.ofNat (mLow s))) := by
                  unfold mY mZ
                  rw [if_pos cb]
                  refine mB_f _ _ _ _ _ _ _ _ (by omega) (fun j hj => ?_)
                  unfold rw1
                  by_cases z : j = mLow s + 1 + t
                  · rw [if_pos z, if_pos z]
                  · rw [if_neg z, if_neg z]
                    by_cases z2 : j = mLow s
                    · rw [if_pos z2, if_pos z2]
                    · rw [if_neg z2, if_neg z2]
                      refine (hf j ?_).symm
                      rw [mX_bit, mX_bit, decide_eq_false (fun w => z2 w.symm), decide_eq_false (fun w => z w.symm)] at hj
                      simpa using hj
                rw [this]
                exact g1
              · have z2 : ¬ mLow s = j := fun w => by rw [w, hj] at l2; cases l2
                have z1 : ¬ mLow s + 1 + t = j := fun w => by rw [w, hj] at cb; cases cb
                rw [g2 j (by rw [mX_bit, mX_bit, hj, decide_eq_false z1, decide_eq_false z2]; rfl), rw1_ne _ _ (fun w => z1 w.symm), rw1_ne _ _ (fun w => z2 w.symm)]
                exact hf j hj
          · have cb' : s.testBit (mLow s + 1 + t) = false := Bool.eq_false_iff.mpr cb
            rw [cb'] at sq
            have sq2 : ((Int32.ofNat (mX s (mLow s)) >>> (Int32.ofNat (mLow s + 1 + t) &&& 31)) &&& 1 = 0) = True := sq.trans (eq_true rfl)
            refine ⟨J, ?_, f', ?_, hf⟩
            · rw [s174_64]
              simp (disch := first | omega | assumption) only [(x_t5 hg), y1, y2, y3, hR2, tA, rA8, tLw, rA9, rA0, tA1, lA1, rA1, tA2, lA2, rA2, tA3, lA3, rA3, tA4, lA4, rA4, tA5, lA5, rA5, tA6, lA6, rA6, tA7, lA7, rA7, tA8, tS, rS0, tS1, lS1, rS1, tS2, lS2, rS2, tS3, lS3, rS3, tS4, lS4, rS4, tS5, lS5, rS5, tS6, lS6, iN, sq2, s174_150, gT_wI, gR_wI, gL_wI, gS_wI, gU_wI, gI_wI, gJ_wI, gI_wJ, gJ_wJ, gR_wJ, gT_wJ, gL_wJ, gS_wJ, gU_wJ, gI_wR, gJ_wR, gR_wR, gT_wR, gL_wR, gS_wR, gU_wR, wI_wI, wJ_wJ, wR_wR, j_s, j_add, j_addL, j_addR, j_mulL, j_mulR, j_cl, j_clL, j_neg, j_negL, j_nn, j_lt, j_le, j_eq, j_ltL, j_ltR, j_leL, j_leR, j_eqL, j_eqR, j_m1, j_m1L, j_m1R, j_eqLL, j_ltLL, j_leLL, n_le0, n_le1, n_lt0, n_lt1, gc_v, gc_n, ↓reduceIte, and_true, true_and, and_self, or_self, or_false, false_or, not_false_eq_true, not_true_eq_false, false_and, and_false, Nat.reduceAdd, Nat.reduceEqDiff, Nat.reduceLeDiff, Nat.reduceLT]
              rfl
            · have : mY (dNow D) (eN (dE D)) s al c f t = none := if_neg cb
              rw [fo_s, this]
              exact hJ
    · exact PR hd hc hI hb

/-! ===== mates, mate: the model ===== -/
set_option maxRecDepth 100000
/-- a branch that is as good as the whole -/
def mPb (r : gdR) (N s al t : Nat) : Bool := s.testBit (mLow s + 1 + t) && decide (mC r N (mX (mX s (mLow s)) (mLow s + 1 + t)) al ≠ none ∧ oad (mDis r (mLow s) (mLow s + 1 + t)) (mC r N (mX (mX s (mLow s)) (mLow s + 1 + t)) al) = mC r N s al)
theorem mPb_y {r : gdR} {N s al c v t : Nat} {f g : gdR} (hz : mZ r N s al c f = some (v, g)) (hp : mPb r N s al t = true) : ∃ g', mY r N s al c f t = some (v, g') := by
  unfold mPb at hp
  rw [Bool.and_eq_true] at hp
  obtain ⟨h1, h2⟩ := hp
  obtain ⟨h2, h3⟩ := of_decide_eq_true h2
  have e := mY_c r N s al c f t
  rw [if_pos h1, ← oad_oad, h3, ← mZ_c r N s al c f, hz] at e
  cases hy : mY r N s al c f t with
  | none => rw [hy] at e; cases e
  | some y =>
    rw [hy] at e
    have e2 : some y.1 = some v := e
    injection e2 with e3
    exact ⟨y.2, by rw [← e3]⟩
theorem mPb_n {r : gdR} {N s al c v t : Nat} {f g g' : gdR} (hz : mZ r N s al c f = some (v, g)) (hy : mY r N s al c f t = some (v, g')) : mPb r N s al t = true := by
  have e := mY_c r N s al c f t
  have ez := mZ_c r N s al c f
  rw [hy] at e
  rw [hz] at ez
  unfold mPb
  by_cases h1 : s.testBit (mLow s + 1 + t) = true
  · rw [if_pos h1, ← oad_oad] at e
    rw [h1, Bool.true_and]
    refine decide_eq_true ⟨fun z => ?_, ?_⟩
    · rw [z] at e; cases e
    · cases hc : mC r N (mX (mX s (mLow s)) (mLow s + 1 + t)) al with
      | none => rw [hc] at e; cases e
      | some w =>
        cases ht : mC r N s al with
        | none => rw [ht] at ez; cases ez
        | some T =>
          rw [hc] at e
          rw [ht] at ez
          have e2 : some v = some (c + (mDis r (mLow s) (mLow s + 1 + t) + w)) := e
          have e3 : some v = some (c + T) := ez
          injection e2 with e2
          injection e3 with e3
          exact congrArg some (show mDis r (mLow s) (mLow s + 1 + t) + w = T by omega)
  · rw [if_neg h1] at e; cases e
theorem mZ_pick {r : gdR} {N s al c v : Nat} {f g : gdR} (hs : s < 128) (h0 : s ≠ 0) (hz : mZ r N s al c f = some (v, g)) : (∃ t, t < N - (mLow s + 1) ∧ mPb r N s al t = true ∧ (∀ t', t' < t → mPb r N s al t' = false) ∧ mY r N s al c f t = some (v, g)) ∨ ((∀ t, t < N - (mLow s + 1) → mPb r N s al t = false) ∧ mA r N s al c f = some (v, g)) := by
  have e := mZ_eq r N s al c f hs h0
  rw [hz] at e
  have K : ∀ t v1 g1, t < N - (mLow s + 1) → mY r N s al c f t = some (v1, g1) → (∀ t', t' < t → ∀ v' g', mY r N s al c f t' = some (v', g') → v1 < v') → some (v, g) = some (v1, g1) → ∃ t, t < N - (mLow s + 1) ∧ mPb r N s al t = true ∧ (∀ t', t' < t → mPb r N s al t' = false) ∧ mY r N s al c f t = some (v, g) := by
    intro t v1 g1 t1 t2 t4 ev
    injection ev with ev
    injection ev with e1 e2
    subst e1; subst e2
    refine ⟨t, t1, mPb_n hz t2, fun t' ht' => ?_, t2⟩
    cases hb : mPb r N s al t' with
    | false => rfl
    | true =>
      obtain ⟨g', hy⟩ := mPb_y hz hb
      have := t4 t' ht' _ _ hy
      omega
  rcases fo_first (b := mY r N s al c f) (N - (mLow s + 1)) with ⟨e1, h1⟩ | ⟨t, v1, g1, t1, t2, t3, t4, t5⟩
  · rw [e1, bet_n] at e
    refine Or.inr ⟨fun t ht => ?_, e.symm⟩
    cases hb : mPb r N s al t with
    | false => rfl
    | true =>
      obtain ⟨g', hy⟩ := mPb_y hz hb
      rw [h1 t ht] at hy; cases hy
  · rw [t3] at e
    cases hA : mA r N s al c f with
    | none =>
      rw [hA] at e
      exact Or.inl (K t v1 g1 t1 t2 t4 e)
    | some a =>
      obtain ⟨v2, g2⟩ := a
      rw [hA] at e
      have e2 : some (v, g) = if v2 < v1 then some (v2, g2) else some (v1, g1) := e
      by_cases c1 : v2 < v1
      · rw [if_pos c1] at e2
        refine Or.inr ⟨fun t' ht' => ?_, e2.symm⟩
        cases hb : mPb r N s al t' with
        | false => rfl
        | true =>
          obtain ⟨g', hy⟩ := mPb_y hz hb
          have := t5 t' ht' _ _ hy
          injection e2 with e2
          injection e2 with e3 e4
          omega
      · rw [if_neg c1] at e2
        exact Or.inl (K t v1 g1 t1 t2 t4 e2)
/-- a search from above finds the first -/
theorem fo_dn {α : Type} {P : Nat → Bool} {R : Nat → α} {e : α} (n : Nat) : ∀ m, m ≤ n → (∃ t, n - m ≤ t ∧ t < n ∧ P t = true ∧ (∀ t', n - m ≤ t' → t' < t → P t' = false) ∧ fo (fun i x => if P (n - 1 - i) = true then R (n - 1 - i) else x) m e = R t) ∨ ((∀ t, n - m ≤ t → t < n → P t = false) ∧ fo (fun i x => if P (n - 1 - i) = true then R (n - 1 - i) else x) m e = e)
  | 0, _ => Or.inr ⟨fun t h1 h2 => by omega, rfl⟩
  | m + 1, h => by
    rw [fo_s]
    by_cases c : P (n - 1 - m) = true
    · rw [if_pos c]
      exact Or.inl ⟨n - 1 - m, by omega, by omega, c, fun t' h1 h2 => by omega, rfl⟩
    · rw [if_neg c]
      have c' : P (n - 1 - m) = false := Bool.eq_false_iff.mpr c
      rcases fo_dn n m (by omega) with ⟨t, t1, t2, t3, t4, t5⟩ | ⟨t1, t2⟩
      · refine Or.inl ⟨t, by omega, t2, t3, fun t' h1 h2 => ?_, t5⟩
        by_cases z : t' = n - 1 - m
        · rw [z]; exact c'
        · exact t4 t' (by omega) h2
      · refine Or.inr ⟨fun t' h1 h2 => ?_, t2⟩
        by_cases z : t' = n - 1 - m
        · rw [z]; exact c'
        · exact t1 t' (by omega) h2
/-- what the model's searches leave -/
def mFr (h : gd_H) (J : Nat → Nat → Int32) : Prop := ∀ b, b ≠ 1256 → b ≠ 1257 → J b = gI h b
theorem sp248t {h : gd_H} {r : gdR} {N : Nat} (hm : MS h) (iN : gI h 1231 21 = Int32.ofNat N) (hN : N ≤ 7) (i7 : ∀ j, j < 50 → gI h 1250 j = r j) (hr : ∀ p, p < 7 → ∃ v, v ≤ 999 ∧ r p = Int32.ofNat v) {d : Nat} (hd : 5 ≤ d) : ∃ J w, go gd_P0 d 248 2 [.ref 1231, .int 0, .null, .null, .null, .null, .null, .null, .null] [] h = go gd_P0 d 248 2 [.ref 1231, .int (Int32.ofNat (2 ^ N)), w, .null, .null, .null, .null, .null, .null] [] (wI h J) ∧ mFr h J ∧ mTb J r N (2 ^ N) := by
  have pN : 2 ^ N ≤ 2 ^ 7 := Nat.pow_le_pow_right (by omega) (by omega)
  have sl := shl_n N (by omega)
  have L := lp_e (fun s (x : (Nat → Nat → Int32) × Value) => go gd_P0 d 248 2 [.ref 1231, .int (Int32.ofNat s), x.2, .null, .null, .null, .null, .null, .null] [] (wI h x.1)) (fun s x => mFr h x.1 ∧ mTb x.1 r N s) (2 ^ N) (gI h, .null) ⟨fun _ _ _ => rfl, fun s' h1 => by omega⟩ ?_
  · obtain ⟨⟨J, w⟩, e, h1, h2⟩ := L
    exact ⟨J, w, e, h1, h2⟩
  · intro s hs ⟨J, w⟩ ⟨hF, hT⟩
    try dsimp only
    have s7 : s < 128 := by omega
    have hb : ∀ q, s.testBit q = true → q < N := by
      intro q hq
      by_cases c : q < N
      · exact c
      · have h4 : 2 ^ N ≤ 2 ^ q := Nat.pow_le_pow_right (by omega) (by omega)
        rw [Nat.testBit_lt_two_pow (by omega)] at hq
        cases hq
    have q1 : ∀ (J : Nat → Nat → Int32), mFr h J → MS (wI h J) ∧ gI (wI h J) 1231 21 = Int32.ofNat N ∧ ∀ j, j < 50 → gI (wI h J) 1250 j = r j := by
      intro J hJ
      refine ⟨hm, ?_, fun j hj => ?_⟩
      · rw [gI_wI, hJ 1231 (by omega) (by omega)]; exact iN
      · rw [gI_wI, hJ 1250 (by omega) (by omega)]; exact i7 j hj
    have ix0 := ix_t 0 (by omega) s s7
    have ix1 := ix_t 1 (by omega) s s7
    rw [Nat.mul_zero, Nat.zero_add] at ix0
    rw [Nat.mul_one] at ix1
    obtain ⟨a1, a2, a3⟩ := q1 J hF
    have e0 := sp249 a1 a2 hN a3 hr (d := d) (by omega) s7 (al := 0) (by omega) hT hb
    have hF1 : mFr h (up1 J 1256 s (oE (mC r N s 0))) := fun b b1 b2 => by rw [up1_nc _ _ _ b1]; exact hF b b1 b2
    obtain ⟨c1, c2, c3⟩ := q1 _ hF1
    have hT1 : mTb (up1 J 1256 s (oE (mC r N s 0))) r N s := by
      intro s' h1 al ha
      rw [up1_nj _ _ (by omega)]
      exact hT s' h1 al ha
    have e1 := sp249 c1 c2 hN c3 hr (d := d) (by omega) s7 (al := 1) (by omega) hT1 hb
    refine ⟨(up1 (up1 J 1256 s (oE (mC r N s 0))) 1256 (128 + s) (oE (mC r N s 1)), .int 2), ?_, fun b b1 b2 => by dsimp only; rw [up1_nc _ _ _ b1]; exact hF1 b b1 b2, fun s' h1 al ha => ?_⟩
    · try dsimp only
      have ns : ¬ 2 ^ N ≤ s := by omega
      have e0' : run gd_P0 d 249 [.ref 1231, .int (Int32.ofNat s), .int 0] (wI h J) = _ := e0
      have e1' : run gd_P0 d 249 [.ref 1231, .int (Int32.ofNat s), .int 1] (wI h (up1 J 1256 s (oE (mC r N s 0)))) = _ := e1
      have ix0' : ((0 : Int32) <<< ((7 : Int32) &&& 31)) ||| Int32.ofNat s = Int32.ofNat s := ix0
      have ix1' : ((1 : Int32) <<< ((7 : Int32) &&& 31)) ||| Int32.ofNat s = Int32.ofNat (128 + s) := ix1
      have o1' : (0 : Int32) + 1 = 1 := by decide
      have o2' : (1 : Int32) + 1 = 2 := by decide
      have n0 : ¬ (1 : Int32) < 0 := by decide
      have n1 : ¬ (1 : Int32) < 1 := by decide
      have n2 : (1 : Int32) < 2 := by decide
      rw [s248_2]
      simp (disch := first | omega | assumption) only [hm.t, m_r46 hm, m_t46 hm, m_l46 hm, m_r47 hm, m_t47 hm, m_l47 hm, a2, sl, ns, s248_14, n0, n1, n2, e0', ix0', s248_35, o1', e1', ix1', o2', gT_wI, gR_wI, gL_wI, gS_wI, gU_wI, gI_wI, gJ_wI, gI_wJ, gJ_wJ, gR_wJ, gT_wJ, gL_wJ, gS_wJ, gU_wJ, gI_wR, gJ_wR, gR_wR, gT_wR, gL_wR, gS_wR, gU_wR, wI_wI, wJ_wJ, wR_wR, j_s, j_add, j_addL, j_addR, j_mulL, j_mulR, j_cl, j_clL, j_neg, j_negL, j_nn, j_lt, j_le, j_eq, j_ltL, j_ltR, j_leL, j_leR, j_eqL, j_eqR, j_m1, j_m1L, j_m1R, j_eqLL, j_ltLL, j_leLL, n_le0, n_le1, n_lt0, n_lt1, gc_v, gc_n, ↓reduceIte, and_true, true_and, and_self, or_self, or_false, false_or, not_false_eq_true, not_true_eq_false, false_and, and_false, Nat.reduceAdd, Nat.reduceEqDiff, Nat.reduceLeDiff, Nat.reduceLT]
    · dsimp only
      by_cases z : s' = s
      · subst z
        rcases c02 ha with rfl | rfl
        · rw [Nat.mul_zero, Nat.zero_add, up1_nj _ _ (by omega), up1_eq]
        · rw [Nat.mul_one, up1_eq]
      · rw [up1_nj _ _ (by rcases c02 ha with rfl | rfl <;> omega)]
        exact hT1 s' (by omega) al ha

/-! ===== mates: plain law ===== -/
set_option maxRecDepth 100000
/-- the first of the best -/
def bet {α : Type} : Option (Nat × α) → Option (Nat × α) → Option (Nat × α)
  | x, none => x
  | none, some b => some b
  | some a, some b => if b.1 < a.1 then some b else some a
theorem bet_n {α : Type} (y : Option (Nat × α)) : bet none y = y := by cases y <;> rfl
theorem bet_a {α : Type} (x y z : Option (Nat × α)) : bet (bet x y) z = bet x (bet y z) := by
  cases z with
  | none => cases x <;> cases y <;> rfl
  | some z =>
    cases y with
    | none => cases x <;> rfl
    | some y =>
      cases x with
      | none => rw [bet_n, bet_n]
      | some x =>
        simp only [bet]
        by_cases c1 : y.1 < x.1
        · by_cases c2 : z.1 < y.1
          · simp only [c1, c2, show z.1 < x.1 by omega, ↓reduceIte]
          · simp only [c1, c2, ↓reduceIte]
        · by_cases c2 : z.1 < y.1
          · simp only [c1, c2, ↓reduceIte]
          · by_cases c3 : z.1 < x.1
            · omega
            · simp only [c1, c2, c3, ↓reduceIte]
def omn : Option Nat → Option Nat → Option Nat
  | x, none => x
  | none, some b => some b
  | some a, some b => if b < a then some b else some a
theorem omn_n (y : Option Nat) : omn none y = y := by cases y <;> rfl
theorem omn_a (x y z : Option Nat) : omn (omn x y) z = omn x (omn y z) := by
  cases z with
  | none => cases x <;> cases y <;> rfl
  | some z =>
    cases y with
    | none => cases x <;> rfl
    | some y =>
      cases x with
      | none => rw [omn_n, omn_n]
      | some x =>
        simp only [omn]
        by_cases c1 : y < x
        · by_cases c2 : z < y
          · simp only [c1, c2, show z < x by omega, ↓reduceIte]
          · simp only [c1, c2, ↓reduceIte]
        · by_cases c2 : z < y
          · simp only [c1, c2, ↓reduceIte]
          · by_cases c3 : z < x
            · omega
            · simp only [c1, c2, c3, ↓reduceIte]
theorem omn_c (x y : Option Nat) : omn x y = omn y x := by
  cases x with
  | none => rw [omn_n]; cases y <;> rfl
  | some x =>
    cases y with
    | none => rfl
    | some y =>
      simp only [omn]
      by_cases c1 : y < x
      · by_cases c2 : x < y
        · omega
        · simp only [c1, c2, ↓reduceIte]
      · by_cases c2 : x < y
        · simp only [c1, c2, ↓reduceIte]
        · have : x = y := by omega
          subst this
          rfl
def o1 {α : Type} (x : Option (Nat × α)) : Option Nat := x.map Prod.fst
theorem o1_bet {α : Type} (x y : Option (Nat × α)) : o1 (bet x y) = omn (o1 x) (o1 y) := by
  cases y with
  | none => cases x <;> rfl
  | some y =>
    cases x with
    | none => rfl
    | some x =>
      show o1 (if y.1 < x.1 then some y else some x) = if y.1 < x.1 then some y.1 else some x.1
      split <;> rfl
def oad (c : Nat) (x : Option Nat) : Option Nat := x.map (fun n => c + n)
theorem oad_omn (c : Nat) (x y : Option Nat) : oad c (omn x y) = omn (oad c x) (oad c y) := by
  cases y with
  | none => cases x <;> rfl
  | some y =>
    cases x with
    | none => rfl
    | some x =>
      show oad c (if y < x then some y else some x) = if c + y < c + x then some (c + y) else some (c + x)
      by_cases h : y < x
      · rw [if_pos h, if_pos (by omega)]; rfl
      · rw [if_neg h, if_neg (by omega)]; rfl
theorem oad_oad (a b : Nat) (x : Option Nat) : oad a (oad b x) = oad (a + b) x := by
  cases x with
  | none => rfl
  | some x => show some (a + (b + x)) = some (a + b + x); rw [Nat.add_assoc]
theorem oad_0 (x : Option Nat) : oad 0 x = x := by
  cases x with
  | none => rfl
  | some x => show some (0 + x) = some x; rw [Nat.zero_add]
/-- how far apart -/
def mDis (r : gdR) (p q : Nat) : Nat := ((r p).toNatClampNeg - (r q).toNatClampNeg) + ((r q).toNatClampNeg - (r p).toNatClampNeg)
def mLow (s : Nat) : Nat := fi (fun p => s.testBit p) (fun p => p) 0 7 0
def mX (s p : Nat) : Nat := s ^^^ 2 ^ p
theorem mX_bit (s p j : Nat) : (mX s p).testBit j = (s.testBit j ^^ decide (p = j)) := by
  unfold mX
  rw [Nat.testBit_xor, Nat.testBit_two_pow]
theorem mX_lt : ∀ s, s < 128 → ∀ p, p < 7 → s.testBit p = true → mX s p < s := by decide +kernel
theorem mLow_p : ∀ s, s < 128 → s ≠ 0 → mLow s < 7 ∧ s.testBit (mLow s) = true := by decide +kernel
theorem mbit_7 : ∀ s, s < 128 → ∀ q, q < 7 → s.testBit q = true → q < 7 := fun _ _ _ h _ => h
theorem mbit_lt {s q : Nat} (hs : s < 128) (h : s.testBit q = true) : q < 7 := by
  by_cases c : q < 7
  · exact c
  · have h3 : 2 ^ 7 ≤ 2 ^ q := Nat.pow_le_pow_right (by omega) (by omega)
    have h2 : s < 2 ^ q := Nat.lt_of_lt_of_le hs h3
    rw [Nat.testBit_lt_two_pow h2] at h
    cases h
def mB (r : gdR) (N : Nat) : Nat → Nat → Nat → Nat → gdR → Option (Nat × gdR)
  | 0, s, al, c, f => if s = 0 then (if al = 0 then some (c, f) else none) else none
  | k + 1, s, al, c, f => if s = 0 then (if al = 0 then some (c, f) else none) else bet (fo (fun t x => bet x (if s.testBit (mLow s + 1 + t) = true then mB r N k (mX (mX s (mLow s)) (mLow s + 1 + t)) al (c + mDis r (mLow s) (mLow s + 1 + t)) (rw1 (rw1 f (mLow s) (Int32.ofNat (mLow s + 1 + t))) (mLow s + 1 + t) (Int32.ofNat (mLow s))) else none)) (N - (mLow s + 1)) none) (if al = 1 then mB r N k (mX s (mLow s)) 0 c (rw1 f (mLow s) (-1)) else none)
theorem mB_s (r : gdR) (N k s al c : Nat) (f : gdR) : mB r N (k + 1) s al c f = if s = 0 then (if al = 0 then some (c, f) else none) else bet (fo (fun t x => bet x (if s.testBit (mLow s + 1 + t) = true then mB r N k (mX (mX s (mLow s)) (mLow s + 1 + t)) al (c + mDis r (mLow s) (mLow s + 1 + t)) (rw1 (rw1 f (mLow s) (Int32.ofNat (mLow s + 1 + t))) (mLow s + 1 + t) (Int32.ofNat (mLow s))) else none)) (N - (mLow s + 1)) none) (if al = 1 then mB r N k (mX s (mLow s)) 0 c (rw1 f (mLow s) (-1)) else none) := rfl
theorem mX2 {s t : Nat} (h : s < 128) (h0 : s ≠ 0) (hb : s.testBit (mLow s + 1 + t) = true) : mX (mX s (mLow s)) (mLow s + 1 + t) < mX s (mLow s) ∧ mX s (mLow s) < s := by
  obtain ⟨l1, l2⟩ := mLow_p s h h0
  have h1 := mX_lt s h _ l1 l2
  refine ⟨mX_lt _ (by omega) _ (mbit_lt h hb) ?_, h1⟩
  rw [mX_bit, hb, decide_eq_false (by omega)]
  rfl
theorem mB_k (r : gdR) (N : Nat) : ∀ k s al c f, s < 128 → s ≤ k → mB r N (k + 1) s al c f = mB r N k s al c f
  | 0, s, al, c, f, hs, hk => by
    have : s = 0 := by omega
    subst this
    rfl
  | k + 1, s, al, c, f, hs, hk => by
    rw [mB_s r N (k + 1) s al c f, mB_s r N k s al c f]
    by_cases z : s = 0
    · rw [if_pos z, if_pos z]
    · rw [if_neg z, if_neg z]
      obtain ⟨l1, l2⟩ := mLow_p s hs z
      have h1 := mX_lt s hs _ l1 l2
      congr 1
      · refine fo_congr (fun t ht x => ?_) none
        by_cases b : s.testBit (mLow s + 1 + t) = true
        · have h2 := mX2 hs z b
          rw [if_pos b, if_pos b, mB_k r N k _ _ _ _ (by omega) (by omega)]
        · rw [if_neg b, if_neg b]
      · by_cases a : al = 1
        · rw [if_pos a, if_pos a, mB_k r N k _ _ _ _ (by omega) (by omega)]
        · rw [if_neg a, if_neg a]
/-- what the search finds -/
def mZ (r : gdR) (N s al c : Nat) (f : gdR) : Option (Nat × gdR) := mB r N 128 s al c f
/-- one branch -/
def mY (r : gdR) (N s al c : Nat) (f : gdR) (t : Nat) : Option (Nat × gdR) := if s.testBit (mLow s + 1 + t) = true then mZ r N (mX (mX s (mLow s)) (mLow s + 1 + t)) al (c + mDis r (mLow s) (mLow s + 1 + t)) (rw1 (rw1 f (mLow s) (Int32.ofNat (mLow s + 1 + t))) (mLow s + 1 + t) (Int32.ofNat (mLow s))) else none
def mA (r : gdR) (N s al c : Nat) (f : gdR) : Option (Nat × gdR) := if al = 1 then mZ r N (mX s (mLow s)) 0 c (rw1 f (mLow s) (-1)) else none
theorem mB_z (r : gdR) (N al c : Nat) (f : gdR) : ∀ k, mB r N k 0 al c f = if al = 0 then some (c, f) else none
  | 0 => rfl
  | _ + 1 => rfl
theorem mZ_eq (r : gdR) (N s al c : Nat) (f : gdR) (hs : s < 128) (h0 : s ≠ 0) : mZ r N s al c f = bet (fo (fun t x => bet x (mY r N s al c f t)) (N - (mLow s + 1)) none) (mA r N s al c f) := by
  have e := mB_k r N 128 s al c f hs (by omega)
  unfold mZ
  rw [← e, mB, if_neg h0]
  rfl
/-- what the boys of the set have does not matter -/
theorem mB_f (r : gdR) (N : Nat) : ∀ k s al c (f g : gdR), s < 128 → (∀ j, s.testBit j = false → f j = g j) → mB r N k s al c f = mB r N k s al c g
  | 0, s, al, c, f, g, hs, h => by
    rw [mB, mB]
    by_cases z : s = 0
    · have : f = g := funext fun j => h j (by rw [z]; exact Nat.zero_testBit j)
      rw [this]
    · rw [if_neg z, if_neg z]
  | k + 1, s, al, c, f, g, hs, h => by
    rw [mB, mB]
    by_cases z : s = 0
    · have : f = g := funext fun j => h j (by rw [z]; exact Nat.zero_testBit j)
      rw [this]
    · rw [if_neg z, if_neg z]
      obtain ⟨l1, l2⟩ := mLow_p s hs z
      have h1 := mX_lt s hs _ l1 l2
      congr 1
      · refine fo_congr (fun t ht x => ?_) none
        by_cases b : s.testBit (mLow s + 1 + t) = true
        · have h2 := mX2 hs z b
          rw [if_pos b, if_pos b, mB_f r N k _ _ _ _ (rw1 (rw1 g (mLow s) (Int32.ofNat (mLow s + 1 + t))) (mLow s + 1 + t) (Int32.ofNat (mLow s))) (by omega) (fun j hj => ?_)]
          rw [mX_bit, mX_bit] at hj
          unfold rw1
          by_cases j1 : j = mLow s + 1 + t
          · rw [if_pos j1, if_pos j1]
          · rw [if_neg j1, if_neg j1]
            by_cases j2 : j = mLow s
            · rw [if_pos j2, if_pos j2]
            · rw [if_neg j2, if_neg j2]
              refine h j ?_
              rw [decide_eq_false (show ¬ mLow s + 1 + t = j by omega), decide_eq_false (show ¬ mLow s = j by omega)] at hj
              simpa using hj
        · rw [if_neg b, if_neg b]
      · by_cases a : al = 1
        · rw [if_pos a, if_pos a, mB_f r N k _ _ _ _ (rw1 g (mLow s) (-1)) (by omega) (fun j hj => ?_)]
          rw [mX_bit] at hj
          unfold rw1
          by_cases j2 : j = mLow s
          · rw [if_pos j2, if_pos j2]
          · rw [if_neg j2, if_neg j2]
            refine h j ?_
            rw [decide_eq_false (show ¬ mLow s = j by omega)] at hj
            simpa using hj
        · rw [if_neg a, if_neg a]
/-- what it costs -/
def mC (r : gdR) (N s al : Nat) : Option Nat := o1 (mZ r N s al 0 (fun _ => 0))
theorem fo_o1 {b : Nat → Option (Nat × gdR)} : ∀ n, o1 (fo (fun t x => bet x (b t)) n none) = fo (fun t x => omn x (o1 (b t))) n none
  | 0 => rfl
  | n + 1 => by rw [fo_s, fo_s, o1_bet, fo_o1 n]
theorem fo_oad {b : Nat → Option Nat} (c : Nat) : ∀ n, oad c (fo (fun t x => omn x (b t)) n none) = fo (fun t x => omn x (oad c (b t))) n none
  | 0 => rfl
  | n + 1 => by rw [fo_s, fo_s, oad_omn, fo_oad c n]
theorem fo_omn {b : Nat → Option Nat} (x : Option Nat) : ∀ n, fo (fun t x => omn x (b t)) n x = omn x (fo (fun t x => omn x (b t)) n none)
  | 0 => by cases x <;> rfl
  | n + 1 => by rw [fo_s, fo_s, fo_omn x n, omn_a]
theorem mB_c (r : gdR) (N : Nat) : ∀ k s al c (f g : gdR), o1 (mB r N k s al c f) = oad c (o1 (mB r N k s al 0 g))
  | 0, s, al, c, f, g => by
    rw [mB, mB]
    split
    · split <;> rfl
    · rfl
  | k + 1, s, al, c, f, g => by
    rw [mB, mB]
    split
    · split <;> rfl
    · rw [o1_bet, o1_bet, oad_omn, fo_o1, fo_o1, fo_oad]
      congr 1
      · refine fo_congr (fun t ht x => ?_) none
        congr 1
        split
        · rw [mB_c r N k _ _ _ _ (fun _ => 0), mB_c r N k _ _ (0 + _) _ (fun _ => 0), oad_oad, Nat.zero_add]
        · rfl
      · split
        · rw [mB_c r N k _ _ _ _ (rw1 g (mLow s) (-1))]
        · rfl
theorem mZ_c (r : gdR) (N s al c : Nat) (f : gdR) : o1 (mZ r N s al c f) = oad c (mC r N s al) := mB_c r N 128 s al c f _
theorem mY_c (r : gdR) (N s al c : Nat) (f : gdR) (t : Nat) : o1 (mY r N s al c f t) = if s.testBit (mLow s + 1 + t) = true then oad (c + mDis r (mLow s) (mLow s + 1 + t)) (mC r N (mX (mX s (mLow s)) (mLow s + 1 + t)) al) else none := by
  unfold mY
  split
  · exact mZ_c ..
  · rfl
theorem mA_c (r : gdR) (N s al c : Nat) (f : gdR) : o1 (mA r N s al c f) = if al = 1 then oad c (mC r N (mX s (mLow s)) 0) else none := by
  unfold mA
  split
  · exact mZ_c ..
  · rfl
theorem mC_0 (r : gdR) (N al : Nat) : mC r N 0 al = if al = 0 then some 0 else none := by
  unfold mC mZ
  rw [mB_z]
  split <;> rfl
theorem mC_eq (r : gdR) (N s al : Nat) (hs : s < 128) (h0 : s ≠ 0) : mC r N s al = fo (fun t x => omn x (if s.testBit (mLow s + 1 + t) = true then oad (mDis r (mLow s) (mLow s + 1 + t)) (mC r N (mX (mX s (mLow s)) (mLow s + 1 + t)) al) else none)) (N - (mLow s + 1)) (if al = 1 then mC r N (mX s (mLow s)) 0 else none) := by
  rw [fo_omn, omn_c]
  show o1 (mZ r N s al 0 (fun _ => 0)) = _
  rw [mZ_eq r N s al 0 _ hs h0, o1_bet, fo_o1, mA_c]
  simp only [mY_c, Nat.zero_add, oad_0]
/-- the first of the best branches -/
theorem fo_first {b : Nat → Option (Nat × gdR)} : ∀ n, (fo (fun t x => bet x (b t)) n none = none ∧ ∀ t, t < n → b t = none) ∨ ∃ t v g, t < n ∧ b t = some (v, g) ∧ fo (fun t x => bet x (b t)) n none = some (v, g) ∧ (∀ t', t' < t → ∀ v' g', b t' = some (v', g') → v < v') ∧ ∀ t', t' < n → ∀ v' g', b t' = some (v', g') → v ≤ v'
  | 0 => Or.inl ⟨rfl, fun t h => absurd h (Nat.not_lt_zero t)⟩
  | n + 1 => by
    rw [fo_s]
    rcases fo_first n with ⟨e, h⟩ | ⟨t, v, g, t1, t2, t3, t4, t5⟩
    · rw [e, bet_n]
      rcases eb : b n with _ | ⟨v, g⟩
      · refine Or.inl ⟨rfl, fun t ht => ?_⟩
        by_cases z : t = n
        · rw [z]; exact eb
        · exact h t (by omega)
      · refine Or.inr ⟨n, v, g, by omega, eb, rfl, fun t' ht' v' g' e' => ?_, fun t' ht' v' g' e' => ?_⟩
        · rw [h t' ht'] at e'; cases e'
        · by_cases z : t' = n
          · rw [z, eb] at e'; injection e' with e'; injection e' with e1; omega
          · rw [h t' (by omega)] at e'; cases e'
    · rw [t3]
      rcases eb : b n with _ | ⟨v2, g2⟩
      · refine Or.inr ⟨t, v, g, by omega, t2, rfl, t4, fun t' ht' v' g' e' => ?_⟩
        by_cases z : t' = n
        · rw [z, eb] at e'; cases e'
        · exact t5 t' (by omega) v' g' e'
      · show (if v2 < v then some (v2, g2) else some (v, g)) = none ∧ _ ∨ _
        by_cases c : v2 < v
        · refine Or.inr ⟨n, v2, g2, by omega, eb, ?_, fun t' ht' v' g' e' => ?_, fun t' ht' v' g' e' => ?_⟩
          · show (if v2 < v then some (v2, g2) else some (v, g)) = _
            rw [if_pos c]
          · have := t5 t' (by omega) v' g' e'; omega
          · by_cases z : t' = n
            · rw [z, eb] at e'; injection e' with e'; injection e' with e1; omega
            · have := t5 t' (by omega) v' g' e'; omega
        · refine Or.inr ⟨t, v, g, by omega, t2, ?_, t4, fun t' ht' v' g' e' => ?_⟩
          · show (if v2 < v then some (v2, g2) else some (v, g)) = _
            rw [if_neg c]
          · by_cases z : t' = n
            · rw [z, eb] at e'; injection e' with e'; injection e' with e1; omega
            · exact t5 t' (by omega) v' g' e'

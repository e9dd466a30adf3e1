/-! ===== run: longs, the reduction ===== -/
set_option maxRecDepth 100000
theorem k_add (m n : Nat) : Int64.ofNat m + Int64.ofNat n = Int64.ofNat (m + n) := (Int64.ofNat_add m n).symm
theorem k_mul (m n : Nat) : Int64.ofNat m * Int64.ofNat n = Int64.ofNat (m * n) := (Int64.ofNat_mul m n).symm
theorem k_sub {m n : Nat} (h : n ≤ m) : Int64.ofNat m - Int64.ofNat n = Int64.ofNat (m - n) := (Int64.ofNat_sub m n h).symm
theorem k_div {m n : Nat} (hm : m < 9223372036854775808) (hn : n < 9223372036854775808) : Int64.ofNat m / Int64.ofNat n = Int64.ofNat (m / n) := (Int64.ofNat_div hm hn).symm
theorem k_inj {m n : Nat} (hm : m < 9223372036854775808) (hn : n < 9223372036854775808) (h : Int64.ofNat m = Int64.ofNat n) : m = n := by
  have := congrArg Int64.toInt h
  rw [Int64.toInt_ofNat_of_lt hm, Int64.toInt_ofNat_of_lt hn] at this
  omega
theorem k_mod {a b : Nat} (ha : a < 9223372036854775808) (hb : b < 9223372036854775808) : Int64.ofNat a - Int64.ofNat a / Int64.ofNat b * Int64.ofNat b = Int64.ofNat (a % b) := by
  have h := Nat.div_mul_le_self a b
  rw [k_div ha hb, k_mul, k_sub h]
  congr 1
  have e := Nat.div_add_mod a b
  rw [Nat.mul_comm] at e
  omega
theorem k_0 {a : Nat} (ha : a < 9223372036854775808) (h : a ≠ 0) : ¬ Int64.ofNat a = 0 := fun z => h (k_inj ha (by omega) (z.trans rfl))
theorem k_32 : ∀ n, n ≤ 64 → Int32.toInt64 (Int32.ofNat n) = Int64.ofNat n := by decide +kernel
theorem eu_g {a b : Nat} : Nat.gcd b (a % b) = Nat.gcd a b := by
  rw [Nat.gcd_comm a b, Nat.gcd_rec b a, Nat.gcd_comm b]
theorem eu79 {h : gd_H} {d : Nat} (v0 v2 : Int64) (v4 : Int32) : ∀ k b a w1 w3 w6 w8 w9 w10, b ≤ k → a < 9223372036854775808 → b < 9223372036854775808 → (a ≠ 0 ∨ b ≠ 0) → go gd_P0 d 79 6 [.long v0, w1, .long v2, w3, .int v4, .long (Int64.ofNat a), w6, .long (Int64.ofNat b), w8, w9, w10] [] h = some (.inl (some (.long ((if v4 = 0 then v0 else v2) / Int64.ofNat (Nat.gcd a b)))), h) := by
  have Z : ∀ a w1 w3 w6 w8 w9 w10, a < 9223372036854775808 → a ≠ 0 → go gd_P0 d 79 6 [.long v0, w1, .long v2, w3, .int v4, .long (Int64.ofNat a), w6, .long (Int64.ofNat 0), w8, w9, w10] [] h = some (.inl (some (.long ((if v4 = 0 then v0 else v2) / Int64.ofNat (Nat.gcd a 0)))), h) := by
    intro a w1 w3 w6 w8 w9 w10 ha a0
    rw [s79_6, Nat.gcd_zero_right, if_pos (show lg_cmp (Int64.ofNat 0) 0 = 0 from (lg_cmp_eq _ _).mpr rfl)]
    by_cases c : v4 = 0
    · rw [if_pos c, if_pos c, if_neg (k_0 ha a0), s79_47]
    · rw [if_neg c, if_neg c, if_neg (k_0 ha a0), s79_47]
  intro k
  induction k with
  | zero =>
    intro b a w1 w3 w6 w8 w9 w10 hk ha hb h0
    have e : b = 0 := Nat.le_zero.mp hk
    subst e
    exact Z a _ _ _ _ _ _ ha (h0.resolve_right (fun z => z rfl))
  | succ k ih =>
    intro b a w1 w3 w6 w8 w9 w10 hk ha hb h0
    by_cases e : b = 0
    · subst e
      exact Z a _ _ _ _ _ _ ha (h0.resolve_right (fun z => z rfl))
    · have nb := k_0 hb e
      have lt := Nat.mod_lt a (show 0 < b by omega)
      rw [s79_6, if_neg (fun z => nb ((lg_cmp_eq _ _).mp z)), if_neg nb, k_mod ha hb, ih _ _ _ _ _ _ _ _ (by omega) hb (by omega) (Or.inl e), eu_g]
theorem eu262 {h : gd_H} {d : Nat} (v0 v2 : Int64) (v4 : Int32) : ∀ k b a w1 w3 w6 w8 w9 w10, b ≤ k → a < 9223372036854775808 → b < 9223372036854775808 → (a ≠ 0 ∨ b ≠ 0) → go gd_P0 d 262 6 [.long v0, w1, .long v2, w3, .int v4, .long (Int64.ofNat a), w6, .long (Int64.ofNat b), w8, w9, w10] [] h = some (.inl (some (.long ((if v4 = 0 then v0 else v2) / Int64.ofNat (Nat.gcd a b)))), h) := by
  have Z : ∀ a w1 w3 w6 w8 w9 w10, a < 9223372036854775808 → a ≠ 0 → go gd_P0 d 262 6 [.long v0, w1, .long v2, w3, .int v4, .long (Int64.ofNat a), w6, .long (Int64.ofNat 0), w8, w9, w10] [] h = some (.inl (some (.long ((if v4 = 0 then v0 else v2) / Int64.ofNat (Nat.gcd a 0)))), h) := by
    intro a w1 w3 w6 w8 w9 w10 ha a0
    rw [s262_6, Nat.gcd_zero_right, if_pos (show lg_cmp (Int64.ofNat 0) 0 = 0 from (lg_cmp_eq _ _).mpr rfl)]
    by_cases c : v4 = 0
    · rw [if_pos c, if_pos c, s262_41, if_neg (k_0 ha a0)]
    · rw [if_neg c, if_neg c, s262_41, if_neg (k_0 ha a0)]
  intro k
  induction k with
  | zero =>
    intro b a w1 w3 w6 w8 w9 w10 hk ha hb h0
    have e : b = 0 := Nat.le_zero.mp hk
    subst e
    exact Z a _ _ _ _ _ _ ha (h0.resolve_right (fun z => z rfl))
  | succ k ih =>
    intro b a w1 w3 w6 w8 w9 w10 hk ha hb h0
    by_cases e : b = 0
    · subst e
      exact Z a _ _ _ _ _ _ ha (h0.resolve_right (fun z => z rfl))
    · have nb := k_0 hb e
      have lt := Nat.mod_lt a (show 0 < b by omega)
      rw [s262_6, if_neg (fun z => nb ((lg_cmp_eq _ _).mp z)), if_neg nb, k_mod ha hb, ih _ _ _ _ _ _ _ _ (by omega) hb (by omega) (Or.inl e), eu_g]
/-- the chance's two parts, out of n over m -/
def vRd (n m : Nat) (w : Int32) : Int64 := (if w = 0 then Int64.ofNat n else Int64.ofNat m) / Int64.ofNat (Nat.gcd n m)
theorem sp79 {h : gd_H} {d : Nat} (hd : 1 ≤ d) {n m : Nat} (w : Int32) (hn : n < 9223372036854775808) (hm : m < 9223372036854775808) (h0 : m ≠ 0) : run gd_P0 d 79 [.long (Int64.ofNat n), .long (Int64.ofNat m), .int w] h = some (.inl (some (.long (vRd n m w))), h) := by
  obtain ⟨d, rfl⟩ : ∃ e, d = e + 1 := ⟨d - 1, by omega⟩
  rw [r79, s79_0, eu79 _ _ _ n n m _ _ _ _ _ _ (Nat.le_refl _) hm hn (Or.inl h0), Nat.gcd_comm]
  rfl
theorem sp262 {h : gd_H} {d : Nat} (hd : 1 ≤ d) {n m : Nat} (w : Int32) (hn : n < 9223372036854775808) (hm : m < 9223372036854775808) (h0 : m ≠ 0) : run gd_P0 d 262 [.long (Int64.ofNat n), .long (Int64.ofNat m), .int w] h = some (.inl (some (.long (vRd n m w))), h) := by
  obtain ⟨d, rfl⟩ : ∃ e, d = e + 1 := ⟨d - 1, by omega⟩
  rw [r262, s262_0, eu262 _ _ _ m m n _ _ _ _ _ _ (Nat.le_refl _) hn hm (Or.inr h0)]
  rfl

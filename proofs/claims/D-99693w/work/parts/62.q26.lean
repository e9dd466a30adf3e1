/-! ===== run: plain law ===== -/
set_option maxRecDepth 100000
def rT (f : Nat → Nat) (k : Nat) : Nat := fo (fun t x => x + f t) k 0
theorem rT_s (f : Nat → Nat) (k : Nat) : rT f (k + 1) = rT f k + f k := rfl
theorem rT_le (f : Nat → Nat) {j : Nat} : ∀ k, j < k → f j ≤ rT f k
  | 0, h => absurd h (Nat.not_lt_zero j)
  | k + 1, h => by
    rw [rT_s]
    by_cases z : j = k
    · subst z; omega
    · have := rT_le f (j := j) k (by omega); omega
theorem rT_m (f : Nat → Nat) {j : Nat} : ∀ k, j ≤ k → rT f j ≤ rT f k
  | 0, h => by have : j = 0 := by omega
               subst this; exact Nat.le_refl _
  | k + 1, h => by
    by_cases z : j = k + 1
    · rw [z]; exact Nat.le_refl _
    · have := rT_m f k (show j ≤ k by omega)
      rw [rT_s]; omega
/-- how many ways end with a streak of j, after i draws -/
def rS (k p : Nat) : Nat → Nat → Nat
  | 0, j => if j = 0 then 1 else 0
  | i + 1, j => if j = 0 then rT (rS k p i) k * (16 - p) else rS k p i (j - 1) * p
theorem rS_0 (k p i : Nat) : rS k p (i + 1) 0 = rT (rS k p i) k * (16 - p) := rfl
theorem rS_s (k p i j : Nat) : rS k p (i + 1) (j + 1) = rS k p i j * p := rfl
/-- and how many reached the streak of k -/
def rK (k p : Nat) : Nat → Nat
  | 0 => 0
  | i + 1 => 16 * rK k p i + rS k p i (k - 1) * p
theorem rT_sh (k p i : Nat) : ∀ n, rT (rS k p (i + 1)) (n + 1) = rT (rS k p i) k * (16 - p) + rT (rS k p i) n * p
  | 0 => by
    rw [rT_s]
    show 0 + rS k p (i + 1) 0 = _ + 0 * p
    rw [rS_0, Nat.zero_mul, Nat.zero_add, Nat.add_zero]
  | n + 1 => by rw [rT_s, rT_sh k p i n, rS_s, rT_s, Nat.add_mul, Nat.add_assoc]
theorem rT_0 (k p : Nat) : ∀ n, rT (rS k p 0) (n + 1) = 1
  | 0 => rfl
  | n + 1 => by
    rw [rT_s, rT_0 k p n]
    rfl
theorem r_all {k p : Nat} (hk : 1 ≤ k) (hp : p ≤ 16) : ∀ i, rT (rS k p i) k + rK k p i = 16 ^ i
  | 0 => by
    obtain ⟨n, rfl⟩ : ∃ n, k = n + 1 := ⟨k - 1, by omega⟩
    rw [rT_0]
    rfl
  | i + 1 => by
    obtain ⟨n, rfl⟩ : ∃ n, k = n + 1 := ⟨k - 1, by omega⟩
    have ih := r_all hk hp i
    have e : rK (n + 1) p (i + 1) = 16 * rK (n + 1) p i + rS (n + 1) p i n * p := rfl
    rw [rT_sh, e, Nat.pow_succ, ← ih]
    rw [rT_s]
    generalize rT (rS (n + 1) p i) n = A
    generalize rS (n + 1) p i n = B
    generalize rK (n + 1) p i = C
    have h1 : (A + B) * (16 - p) + (A + B) * p = (A + B) * 16 := by
      rw [← Nat.mul_add, show 16 - p + p = 16 by omega]
    have h2 : (A + B) * p = A * p + B * p := Nat.add_mul ..
    have h3 : (A + B + C) * 16 = (A + B) * 16 + C * 16 := Nat.add_mul ..
    omega
theorem rS_b {k p : Nat} (hk : 1 ≤ k) (hp : p ≤ 16) {i j : Nat} (hi : i ≤ 12) (hj : j < k) : rS k p i j ≤ 281474976710656 ∧ rT (rS k p i) k ≤ 281474976710656 ∧ rK k p i ≤ 281474976710656 := by
  have h1 := r_all hk hp i
  have h2 := rT_le (rS k p i) k hj
  have h3 : 16 ^ i ≤ 16 ^ 12 := Nat.pow_le_pow_right (by omega) hi
  omega
/-- the answer -/
def vRun (n k p : Nat) (w : Int32) : Int64 := vRd (16 ^ n - rT (rS k p n) k) (16 ^ n) w
theorem vRun_m {n k p : Nat} (hk : 1 ≤ k) (hp : p ≤ 16) (w : Int32) : vRd (rK k p n) (16 ^ n) w = vRun n k p w := by
  have h := r_all hk hp n
  unfold vRun
  rw [show 16 ^ n - rT (rS k p n) k = rK k p n by omega]
theorem vRun_0 : ∀ n, n ≤ 12 → ∀ w, vRd 1 1 w = vRun n 0 0 w := by
  intro n hn w
  have h : 16 ^ n ≤ 16 ^ 12 := Nat.pow_le_pow_right (by omega) hn
  have h1 : 1 ≤ 16 ^ n := Nat.one_le_pow _ _ (by omega)
  show vRd 1 1 w = vRd (16 ^ n - 0) (16 ^ n) w
  unfold vRd
  rw [Nat.sub_zero, Nat.gcd_self, Nat.gcd_self, ite_self, ite_self, k_div (by omega) (by omega), k_div (by omega) (by omega), Nat.div_self (by omega), Nat.div_self (by omega)]
theorem vRun_p (n p : Nat) (w : Int32) : vRun n 0 p w = vRun n 0 0 w := rfl

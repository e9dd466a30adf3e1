/-! ===== BITS (the first family is the kit's own, of laws/BITS.to-paste) ===== -/
def bt (x : Int32) (i : Nat) : Bool := x.toBitVec.getLsbD i
theorem b_ext {x y : Int32} (h : ∀ i, i < 32 → bt x i = bt y i) : x = y := Int32.toBitVec_inj.mp (BitVec.eq_of_getLsbD_eq (fun i hi => h i hi))
theorem b_or (x y : Int32) (i : Nat) : bt (x ||| y) i = (bt x i || bt y i) := by unfold bt; rw [Int32.toBitVec_or, BitVec.getLsbD_or]
theorem b_and (x y : Int32) (i : Nat) : bt (x &&& y) i = (bt x i && bt y i) := by unfold bt; rw [Int32.toBitVec_and, BitVec.getLsbD_and]
theorem b_xor (x y : Int32) (i : Nat) : bt (x ^^^ y) i = (bt x i ^^ bt y i) := by unfold bt; rw [Int32.toBitVec_xor, BitVec.getLsbD_xor]
theorem b_big {x : Int32} {i : Nat} (h : 32 ≤ i) : bt x i = false := BitVec.getLsbD_of_ge _ _ h
theorem b_m1 : ∀ i, i < 32 → bt (-1) i = true := by decide +kernel
theorem b_0 (i : Nat) : bt 0 i = false := BitVec.getLsbD_zero
theorem s_l : ∀ n, n < 32 → ((nI n &&& 31).toBitVec.smod 32).toNat = n := by decide +kernel
theorem s_u : ∀ n, n < 32 → (((nI n).toUInt32 &&& Int32.toUInt32 31).toBitVec % 32).toNat = n := by decide +kernel
theorem b_shl (n : Nat) (hn : n < 32) (x : Int32) {i : Nat} (hi : i < 32) : bt (x <<< (nI n &&& 31)) i = (decide (n ≤ i) && bt x (i - n)) := by
  unfold bt
  rw [Int32.toBitVec_shiftLeft]
  show (x.toBitVec <<< ((nI n &&& 31).toBitVec.smod 32).toNat).getLsbD i = _
  rw [s_l n hn, BitVec.getLsbD_shiftLeft]
  rcases Nat.lt_or_ge i n with h | h
  · simp [h, Nat.not_le.mpr h]
  · simp [hi, h, Nat.not_lt.mpr h]
theorem b_ushr (n : Nat) (hn : n < 32) (x : Int32) (i : Nat) : bt ((x.toUInt32 >>> ((nI n).toUInt32 &&& Int32.toUInt32 31)).toInt32) i = bt x (n + i) := by
  show (x.toUInt32 >>> ((nI n).toUInt32 &&& Int32.toUInt32 31)).toBitVec.getLsbD i = x.toUInt32.toBitVec.getLsbD (n + i)
  rw [UInt32.toBitVec_shiftRight]
  show (x.toUInt32.toBitVec >>> (((nI n).toUInt32 &&& Int32.toUInt32 31).toBitVec % 32).toNat).getLsbD i = _
  rw [s_u n hn, BitVec.getLsbD_ushiftRight]
theorem b_sshr (n : Nat) (hn : n < 32) (x : Int32) {i : Nat} (hi : i < 32) : bt (x >>> (nI n &&& 31)) i = if n + i < 32 then bt x (n + i) else bt x 31 := by
  unfold bt
  rw [Int32.toBitVec_shiftRight]
  show (x.toBitVec.sshiftRight ((nI n &&& 31).toBitVec.smod 32).toNat).getLsbD i = _
  rw [s_l n hn, BitVec.getLsbD_sshiftRight, BitVec.msb_eq_getLsbD_last]
  simp [hi]
theorem b_1 : ∀ i, i < 32 → bt 1 i = decide (i = 0) := by decide +kernel
/-- one bit -/
theorem b_1s {p q : Nat} (hp : p < 32) (hq : q < 32) : bt ((1 : Int32) <<< (Int32.ofNat p &&& 31)) q = decide (q = p) := by
  rw [show bt ((1 : Int32) <<< (Int32.ofNat p &&& 31)) q = _ from b_shl p hp 1 hq, b_1 (q - p) (by omega)]
  by_cases h : q = p
  · subst h; simp
  · by_cases h2 : p ≤ q
    · rw [decide_eq_false (show ¬ q - p = 0 by omega), decide_eq_false h, Bool.and_false]
    · rw [decide_eq_false h2, decide_eq_false h, Bool.false_and]
/-- a bit is asked for -/
theorem b_and1 (x : Int32) : (x &&& 1 = 0) ↔ bt x 0 = false := by
  constructor
  · intro h
    have := b_and x 1 0
    rw [h, b_0, b_1 0 (by omega)] at this
    simpa using this.symm
  · intro h
    refine b_ext fun i hi => ?_
    rw [b_and, b_0, b_1 i hi]
    by_cases z : i = 0
    · rw [z, h]; rfl
    · rw [decide_eq_false z, Bool.and_false]
theorem b_and1' (x : Int32) : (x &&& 1 = 1) ↔ bt x 0 = true := by
  constructor
  · intro h
    have := b_and x 1 0
    rw [h, b_1 0 (by omega)] at this
    simpa using this.symm
  · intro h
    refine b_ext fun i hi => ?_
    rw [b_and, b_1 i hi]
    by_cases z : i = 0
    · rw [z, h]; rfl
    · rw [decide_eq_false z, Bool.and_false]
theorem b_at {x : Int32} {k : Nat} (hk : k < 32) : bt (x >>> (Int32.ofNat k &&& 31)) 0 = bt x k := by
  rw [show bt (x >>> (Int32.ofNat k &&& 31)) 0 = _ from b_sshr k hk x (by omega), if_pos (by omega), Nat.add_zero]
theorem b_q0 {x : Int32} {k : Nat} (hk : k < 32) : ((x >>> (Int32.ofNat k &&& 31)) &&& 1 = 0) ↔ bt x k = false := by rw [b_and1, b_at hk]
theorem b_q1 {x : Int32} {k : Nat} (hk : k < 32) : ((x >>> (Int32.ofNat k &&& 31)) &&& 1 = 1) ↔ bt x k = true := by rw [b_and1', b_at hk]
/-- the n lowest bits -/
theorem b_low : ∀ n, n < 8 → ∀ i, i < 32 → bt (((1 : Int32) <<< (Int32.ofNat n &&& 31)) - 1) i = decide (i < n) := by decide +kernel
/-- bits where c holds -/
def pBits (c : Nat → Bool) (n : Nat) : Int32 := fo (fun p b => if c p = true then b ||| ((1 : Int32) <<< (Int32.ofNat p &&& 31)) else b) n 0
theorem b_bits (c : Nat → Bool) : ∀ n, n ≤ 32 → ∀ i, i < 32 → bt (pBits c n) i = (decide (i < n) && c i)
  | 0, _, i, _ => by rw [show pBits c 0 = 0 from rfl, b_0, decide_eq_false (by omega), Bool.false_and]
  | n + 1, hn, i, hi => by
    have ih := b_bits c n (by omega) i hi
    have e : pBits c (n + 1) = if c n = true then pBits c n ||| ((1 : Int32) <<< (Int32.ofNat n &&& 31)) else pBits c n := rfl
    rw [e]
    by_cases z : i = n
    · subst z
      split
      next h => rw [b_or, b_1s hi hi, decide_eq_true rfl, Bool.or_true, h, decide_eq_true (by omega), Bool.and_true]
      next h => rw [ih, decide_eq_false (by omega), Bool.false_and, Bool.eq_false_iff.mpr h, Bool.and_false]
    · have e2 : decide (i < n + 1) = decide (i < n) := by
        by_cases z2 : i < n
        · rw [decide_eq_true z2, decide_eq_true (by omega)]
        · rw [decide_eq_false z2, decide_eq_false (by omega)]
      rw [e2, ← ih]
      split
      next h => rw [b_or, b_1s (by omega) hi, decide_eq_false z, Bool.or_false]
      next h => rfl
/-- who is there: those of n whose bit is not set -/
theorem b_there (x : Int32) {n : Nat} (hn : n < 8) : ((1 : Int32) <<< (Int32.ofNat n &&& 31)) - 1 &&& (x ^^^ (-1)) = pBits (fun p => !bt x p) n := by
  refine b_ext fun i hi => ?_
  rw [b_and, b_xor, b_low n hn i hi, b_m1 i hi, b_bits _ n (by omega) i hi, Bool.xor_true]
theorem b_flip {x : Int32} {p q : Nat} (hp : p < 32) (hq : q < 32) : bt (x ^^^ ((1 : Int32) <<< (Int32.ofNat p &&& 31))) q = if q = p then !bt x q else bt x q := by
  rw [b_xor, b_1s hp hq]
  by_cases z : q = p
  · rw [decide_eq_true z, if_pos z, Bool.xor_true]
  · rw [decide_eq_false z, if_neg z, Bool.xor_false]

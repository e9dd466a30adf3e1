/-! ===== WHAT A DOOR IS, IN PLAIN NUMBERS: a row of fifty (high 0, food 7, on 14, off 21, cut 28, there 35, thick 42, grease 48, today 49) ===== -/
set_option maxRecDepth 100000
/-- boards, boys, thick and grows as told, kin, rain, the law -/
abbrev gdE : Type := Nat × Nat × (Nat → Int32) × (Nat → Int32) × (Nat → Int32) × (Nat → Int32) × ((Nat → Int32) → Int32)
def eB (E : gdE) : Nat := E.1
def eN (E : gdE) : Nat := E.2.1
def eT (E : gdE) : Nat → Int32 := E.2.2.1
def eG (E : gdE) : Nat → Int32 := E.2.2.2.1
def eK (E : gdE) : Nat → Int32 := E.2.2.2.2.1
def eR (E : gdE) : Nat → Int32 := E.2.2.2.2.2.1
def eL (E : gdE) : (Nat → Int32) → Int32 := E.2.2.2.2.2.2
abbrev gdR : Type := Nat → Int32
def jmin (x y : Int32) : Int32 := if y < x then y else x
def jmax (x y : Int32) : Int32 := if x < y then y else x
/-- thick of the boards below k -/
def pb (r : gdR) (k : Nat) : Int32 := fo (fun e n => n + r (42 + e)) k 0
def pAt (r : gdR) (p : Nat) : Int32 := if r (14 + p) = -1 then 0 else pb r (r (14 + p)).toNatClampNeg + r (21 + p)
def pGain (r : gdR) (p : Nat) : Int32 := if r (14 + p) = -1 then 0 else r p - pAt r p
def pRain (E : gdE) (al : Int32) (r : gdR) : Int32 := if al = -1 then eR E (r 49 - r 49 / 12 * 12).toNatClampNeg else al
def pHi (E : gdE) (r : gdR) (p : Nat) : Int32 := fo (fun q n => if (eK E p >>> (Int32.ofNat q &&& 31)) &&& 1 = 1 ∧ r p < r q then n + 1 else n) (eN E) 0
def pFa (E : gdE) (al : Int32) (r : gdR) (p : Nat) : Nat → Int32
  | 0 => r (7 + p)
  | 1 => r p
  | 2 => pHi E r p
  | 3 => pRain E al r
  | 4 => pGain r p
  | 5 => r 49 - r 49 / 12 * 12
  | 6 => pb r (eB E)
  | _ => Int32.ofNat p
/-- how much, of what a law says -/
def pCl (v : Int32) : Int32 := jmax 0 (jmin 9 v)
def pGr (E : gdE) (al : Int32) (r : gdR) (p : Nat) : Int32 := pCl (eL E (pFa E al r p))
/-- how thick a board is a month on -/
def pTh (E : gdE) (al : Int32) (r : gdR) (k : Nat) : Int32 := jmin 999 (r (42 + k) + jmax 0 ((eG E k + pRain E al r) / 4 - r 48))
def pMo (E : gdE) (al : Int32) (r : gdR) : gdR := fun j => if j < eN E then jmin 999 (r j + pGr E al r j) else if 42 ≤ j ∧ j < 42 + eB E then pTh E al r (j - 42) else if j = 49 then r 49 + 1 else r j
/-- the lowest board whose top is so high; none -/
def pLi (E : gdE) (r : gdR) (v : Int32) : Int32 := fi (fun k => decide (v ≤ pb r (k + 1))) Int32.ofNat (-1) (eB E) 0
def pFam (E : gdE) (r : gdR) : Int32 := fo (fun p b => if r (14 + p) = -1 then b else if b = -1 then Int32.ofNat p else if pGain r p ≤ pGain r b.toNatClampNeg then b else Int32.ofNat p) (eN E) (-1)
def pHs (E : gdE) (r : gdR) : Int32 := fo (fun p n => n + r p) (eN E) 0
/-- a place of a row becomes a value -/
def rw1 (r : gdR) (k : Nat) (v : Int32) : gdR := fun j => if j = k then v else r j
theorem rw1_eq (r : gdR) (k : Nat) (v : Int32) : rw1 r k v k = v := by simp [rw1]
theorem rw1_ne (r : gdR) {k j : Nat} (v : Int32) (h : j ≠ k) : rw1 r k v j = r j := by simp [rw1, h]
/-- a notch -/
def pNo (E : gdE) (r : gdR) (p : Nat) : gdR := rw1 (rw1 (rw1 r (14 + p) (pLi E r (r p))) (21 + p) (r p - pb r (pLi E r (r p)).toNatClampNeg)) (28 + p) (r 49)
def pNoB (E : gdE) (r : gdR) (p : Nat) : Bool := decide (r (35 + p) = 1 ∧ pLi E r (r p) ≠ -1)
/-- a plane -/
def pPl (E : gdE) (r : gdR) (k : Nat) (n : Int32) : gdR := fun j => if j = 42 + k then r (42 + k) - n else if 21 ≤ j ∧ j < 21 + eN E ∧ r (j - 7) = Int32.ofNat k then jmin (r j) (r (42 + k) - n) else r j
/-! what holds of a row -/
/-- marks, the month m, bounds -/
def RI (E : gdE) (m : Nat) (r : gdR) : Prop := (eB E ≤ 6 ∧ eN E ≤ 7) ∧ (∀ p, p < 7 → r (14 + p) = -1 ∨ ∃ k, k < eB E ∧ r (14 + p) = Int32.ofNat k) ∧ r 49 = Int32.ofNat m ∧
  (∀ p, p < 7 → ∃ v, v ≤ 999 ∧ r p = Int32.ofNat v) ∧ (∀ p, p < eN E → 1 ≤ r p) ∧ (∀ k, k < 6 → ∃ v, v ≤ 999 ∧ r (42 + k) = Int32.ofNat v) ∧ (∀ k, k < eB E → 1 ≤ r (42 + k)) ∧ (∀ p, p < 7 → r (35 + p) = 0 ∨ r (35 + p) = 1) ∧ (∃ v, v ≤ 9 ∧ r 48 = Int32.ofNat v)
/-- a school: small, grows and rain to 9 -/
def EI (E : gdE) : Prop := (∀ k, k < eB E → ∃ v, v ≤ 9 ∧ eG E k = Int32.ofNat v) ∧ (∀ m, m < 12 → ∃ v, v ≤ 9 ∧ eR E m = Int32.ofNat v) ∧ (∀ f g : Nat → Int32, (∀ j, j < 8 → f j = g j) → eL E f = eL E g)
def AI (al : Int32) : Prop := al = -1 ∨ ∃ v, v ≤ 9 ∧ al = Int32.ofNat v
theorem pb_s (r : gdR) (k : Nat) : pb r (k + 1) = pb r k + r (42 + k) := rfl
theorem pb_0 (r : gdR) : pb r 0 = 0 := rfl
/-- sums of boards are small -/
theorem pb_n {r : gdR} (h : ∀ k, k < 6 → ∃ v, v ≤ 999 ∧ r (42 + k) = Int32.ofNat v) : ∀ k, k ≤ 6 → ∃ v, v ≤ 999 * k ∧ pb r k = Int32.ofNat v
  | 0, _ => ⟨0, by omega, rfl⟩
  | k + 1, hk => by
    obtain ⟨v, hv, e⟩ := pb_n h k (by omega)
    obtain ⟨w, hw, e2⟩ := h k (by omega)
    exact ⟨v + w, by omega, by rw [pb_s, e, e2, j_add]⟩
/-- higher boards end higher -/
theorem pb_mono {r : gdR} (h : ∀ k, k < 6 → ∃ v, v ≤ 999 ∧ r (42 + k) = Int32.ofNat v) : ∀ n k, k + n ≤ 6 → pb r k ≤ pb r (k + n)
  | 0, k, _ => Int32.le_refl _
  | n + 1, k, hk => by
    obtain ⟨v, hv, e⟩ := pb_n h (k + n) (by omega)
    obtain ⟨w, hw, e2⟩ := h (k + n) (by omega)
    refine Int32.le_trans (pb_mono h n k (by omega)) ?_
    rw [show k + (n + 1) = (k + n) + 1 by omega, pb_s, e, e2, j_add, j_le (by omega) (by omega)]
    omega
theorem fi_none {α : Type} {c : Nat → Bool} {R : Nat → α} {e : α} : ∀ (n i : Nat), (∀ j, i ≤ j → j < i + n → c j = false) → fi c R e n i = e
  | 0, _, _ => rfl
  | n + 1, i, h => by
    rw [fi, h i (Nat.le_refl i) (by omega), if_neg (by decide)]
    exact fi_none n (i + 1) (fun j a b => h j (by omega) (by omega))
theorem fi_or {α : Type} {c : Nat → Bool} {R : Nat → α} {e : α} : ∀ (n i : Nat), (fi c R e n i = e ∧ ∀ j, i ≤ j → j < i + n → c j = false) ∨ ∃ j, i ≤ j ∧ j < i + n ∧ c j = true ∧ fi c R e n i = R j ∧ ∀ q, i ≤ q → q < j → c q = false
  | 0, i => Or.inl ⟨rfl, fun j a b => absurd b (by omega)⟩
  | n + 1, i => by
    cases hc : c i with
    | true => exact Or.inr ⟨i, Nat.le_refl i, by omega, hc, by rw [fi, hc, if_pos rfl], fun q a b => absurd b (by omega)⟩
    | false =>
      rw [fi, hc, if_neg (by decide)]
      rcases fi_or n (i + 1) with ⟨h1, h2⟩ | ⟨j, h1, h2, h3, h4, h5⟩
      · refine Or.inl ⟨h1, fun j a b => ?_⟩
        by_cases q : j = i
        · rw [q]; exact hc
        · exact h2 j (by omega) (by omega)
      · refine Or.inr ⟨j, by omega, by omega, h3, h4, fun q a b => ?_⟩
        by_cases z : q = i
        · rw [z]; exact hc
        · exact h5 q (by omega) b
/-- where a height lies: none, or a board -/
theorem pLi_or (E : gdE) (r : gdR) (v : Int32) : (pLi E r v = -1 ∧ ∀ k, k < eB E → pb r (k + 1) < v) ∨ ∃ k, k < eB E ∧ pLi E r v = Int32.ofNat k ∧ v ≤ pb r (k + 1) ∧ ∀ q, q < k → pb r (q + 1) < v := by
  unfold pLi
  rcases fi_or (c := fun k => decide (v ≤ pb r (k + 1))) (R := Int32.ofNat) (e := -1) (eB E) 0 with ⟨h1, h2⟩ | ⟨j, _, h2, h3, h4, h5⟩
  · exact Or.inl ⟨h1, fun k hk => by
      have := h2 k (by omega) (by omega)
      exact Int32.not_le.mp (of_decide_eq_false this)⟩
  · exact Or.inr ⟨j, by omega, h4, of_decide_eq_true h3, fun q hq => Int32.not_le.mp (of_decide_eq_false (h5 q (by omega) hq))⟩
/-- no board: higher than the door (boards thick, heights above 0) -/
theorem pLi_door {E : gdE} {r : gdR} (hB : eB E ≤ 6) (h : ∀ k, k < 6 → ∃ v, v ≤ 999 ∧ r (42 + k) = Int32.ofNat v) {v : Int32} (hv : 1 ≤ v) : pLi E r v = -1 ↔ pb r (eB E) < v := by
  rcases pLi_or E r v with ⟨h1, h2⟩ | ⟨k, h1, h2, h3, -⟩
  · refine ⟨fun _ => ?_, fun _ => h1⟩
    cases e : eB E with
    | zero => exact Int32.lt_of_lt_of_le (show (0 : Int32) < 1 by decide) hv
    | succ n => exact h2 n (by omega)
  · constructor
    · intro h4
      rw [h2, j_m1 (by omega)] at h4
      exact h4.elim
    · intro h4
      have := pb_mono h (eB E - (k + 1)) (k + 1) (by omega)
      rw [show k + 1 + (eB E - (k + 1)) = eB E by omega] at this
      exact absurd (Int32.lt_of_le_of_lt (Int32.le_trans h3 this) h4) Int32.lt_irrefl
theorem RI.lt {E : gdE} {m : Nat} {r : gdR} (h : RI E m r) : ∀ k, k < 6 → ∃ v, v ≤ 999 ∧ r (42 + k) = Int32.ofNat v := h.2.2.2.2.2.1
theorem jmin_n (a b : Nat) (ha : a < 2147483648) (hb : b < 2147483648) : jmin (Int32.ofNat a) (Int32.ofNat b) = Int32.ofNat (min a b) := by
  unfold jmin
  simp only [j_lt hb ha]
  split
  next h => rw [Nat.min_eq_right (by omega)]
  next h => rw [Nat.min_eq_left (by omega)]
theorem jmax_n (a b : Nat) (ha : a < 2147483648) (hb : b < 2147483648) : jmax (Int32.ofNat a) (Int32.ofNat b) = Int32.ofNat (max a b) := by
  unfold jmax
  simp only [j_lt ha hb]
  split
  next h => rw [Nat.max_eq_right (by omega)]
  next h => rw [Nat.max_eq_left (by omega)]
theorem pCl_n (v : Int32) : ∃ w, w ≤ 9 ∧ pCl v = Int32.ofNat w := by
  unfold pCl jmax jmin
  by_cases h1 : (9 : Int32) ≤ v
  · have h3 : (if v < 9 then v else 9) = 9 := if_neg (fun z => absurd (Int32.lt_of_lt_of_le z h1) Int32.lt_irrefl)
    rw [h3]
    exact ⟨9, Nat.le_refl 9, rfl⟩
  · have h2 : v < 9 := Int32.not_le.mp h1
    rw [if_pos h2]
    by_cases h3 : 0 < v
    · rw [if_pos h3]
      obtain ⟨k, hk, e⟩ := j_exlt (n := 9) (by omega) (Int32.le_of_lt h3) h2
      exact ⟨k, by omega, e⟩
    · rw [if_neg h3]
      exact ⟨0, by omega, rfl⟩
theorem jmax_sub {a b : Nat} (ha : a < 1073741824) (hb : b < 1073741824) : jmax 0 (Int32.ofNat a - Int32.ofNat b) = Int32.ofNat (a - b) := by
  by_cases h : b ≤ a
  · rw [j_sub h]
    exact (jmax_n 0 (a - b) (by omega) (by omega)).trans (by rw [Nat.max_eq_right (Nat.zero_le _)])
  · have h2 : Int32.ofNat a - Int32.ofNat b < 0 := by
      rw [Int32.lt_iff_toInt_lt, Int32.toInt_sub, j_ti (by omega), j_ti (by omega), Int.bmod_eq_of_le (by omega) (by omega), Int32.toInt_zero]
      omega
    unfold jmax
    rw [if_neg (fun z => absurd (Int32.lt_trans z h2) Int32.lt_irrefl), show a - b = 0 by omega]
    rfl
theorem mod12 (m : Nat) (hm : m < 1073741824) : Int32.ofNat m - Int32.ofNat m / 12 * 12 = Int32.ofNat (m % 12) := by
  rw [show (12 : Int32) = Int32.ofNat 12 from rfl, j_div (by omega) (by omega), j_mul, j_sub (by omega)]
  congr 1
  omega
theorem pRain_n {E : gdE} {al : Int32} {r : gdR} {m : Nat} (hE : EI E) (ha : AI al) (hm : m < 1073741824) (h : r 49 = Int32.ofNat m) : ∃ v, v ≤ 9 ∧ pRain E al r = Int32.ofNat v := by
  unfold pRain
  by_cases q : al = -1
  · rw [if_pos q, h, mod12 m hm, j_cl (by omega)]
    exact hE.2.1 _ (by omega)
  · rw [if_neg q]
    rcases ha with z | z
    · exact absurd z q
    · exact z
/-- how much thicker, in small numbers -/
theorem pTh_n {E : gdE} {al : Int32} {r : gdR} {m t : Nat} (hE : EI E) (ha : AI al) (hm : m < 1073741824) (h : r 49 = Int32.ofNat m) (ho : ∃ v, v ≤ 9 ∧ r 48 = Int32.ofNat v) {k : Nat} (hk : k < eB E) (ht : t ≤ 999) (h2 : r (42 + k) = Int32.ofNat t) :
    ∃ w, w ≤ 4 ∧ jmax 0 ((eG E k + pRain E al r) / 4 - r 48) = Int32.ofNat w ∧ pTh E al r k = Int32.ofNat (min 999 (t + w)) := by
  obtain ⟨rn, hr, e1⟩ := pRain_n hE ha hm h
  obtain ⟨g, hg, e2⟩ := hE.1 k hk
  obtain ⟨o, ho, e3⟩ := ho
  have e4 : jmax 0 ((eG E k + pRain E al r) / 4 - r 48) = Int32.ofNat ((g + rn) / 4 - o) := by
    rw [e1, e2, e3, j_add, show (4 : Int32) = Int32.ofNat 4 from rfl, j_div (by omega) (by omega)]
    exact jmax_sub (by omega) (by omega)
  refine ⟨(g + rn) / 4 - o, by omega, e4, ?_⟩
  unfold pTh
  rw [e4, h2, j_add]
  exact jmin_n 999 _ (by omega) (by omega)
/-- a month keeps what holds of a row -/
theorem RI.mo {E : gdE} {m : Nat} {r : gdR} {al : Int32} (hE : EI E) (ha : AI al) (hm0 : m < 1000000) (h : RI E m r) : RI E (m + 1) (pMo E al r) := by
  obtain ⟨⟨hB, hN⟩, ho, hm, hh, hh1, ht, ht1, hw, hg⟩ := h
  have e1 : ∀ j, 7 ≤ j → j < 42 → pMo E al r j = r j := fun j a b => by
    unfold pMo
    rw [if_neg (by omega), if_neg (by omega), if_neg (by omega)]
  have g1 : ∀ p, p < 7 → ∃ v w, v ≤ 999 ∧ w ≤ 9 ∧ r p = Int32.ofNat v ∧ jmin 999 (r p + pGr E al r p) = Int32.ofNat (min 999 (v + w)) := fun p hp => by
    obtain ⟨w, hw, e⟩ := pCl_n (eL E (pFa E al r p))
    obtain ⟨v, hv, e2⟩ := hh p hp
    refine ⟨v, w, hv, hw, e2, ?_⟩
    unfold pGr
    rw [e, e2, j_add]
    exact jmin_n 999 (v + w) (by omega) (by omega)
  refine ⟨⟨hB, hN⟩, fun p hp => ?_, ?_, fun p hp => ?_, fun p hp => ?_, fun k hk => ?_, fun k hk => ?_, fun p hp => ?_, ?_⟩
  · rw [e1 _ (by omega) (by omega)]; exact ho p hp
  · unfold pMo
    rw [if_neg (by omega), if_neg (by omega), if_pos rfl, hm, j_s]
  · unfold pMo
    by_cases q : p < eN E
    · rw [if_pos q]
      obtain ⟨v, w, h1, h2, h3, h4⟩ := g1 p hp
      exact ⟨_, by omega, h4⟩
    · rw [if_neg q, if_neg (by omega), if_neg (by omega)]; exact hh p hp
  · unfold pMo
    rw [if_pos hp]
    obtain ⟨v, w, h1, h2, h3, h4⟩ := g1 p (by omega)
    have hp1 := hh1 p hp
    rw [h4]
    rw [h3] at hp1
    rw [show (1 : Int32) = Int32.ofNat 1 from rfl, j_le (by omega) (by omega)] at hp1 ⊢
    omega
  · unfold pMo
    by_cases q : k < eB E
    · rw [if_neg (by omega), if_pos (by omega), show 42 + k - 42 = k by omega]
      obtain ⟨t, h1, h2⟩ := ht k hk
      obtain ⟨w, h3, -, h4⟩ := pTh_n hE ha (by omega) hm hg q h1 h2
      exact ⟨_, by omega, h4⟩
    · rw [if_neg (by omega), if_neg (by omega), if_neg (by omega)]; exact ht k hk
  · unfold pMo
    rw [if_neg (by omega), if_pos (by omega), show 42 + k - 42 = k by omega]
    obtain ⟨t, h1, h2⟩ := ht k (by omega)
    obtain ⟨w, h3, -, h4⟩ := pTh_n hE ha (by omega) hm hg hk h1 h2
    have h5 := ht1 k hk
    rw [h4]
    rw [h2] at h5
    rw [show (1 : Int32) = Int32.ofNat 1 from rfl, j_le (by omega) (by omega)] at h5 ⊢
    omega
  · rw [e1 _ (by omega) (by omega)]; exact hw p hp
  · unfold pMo
    rw [if_neg (by omega), if_neg (by omega), if_neg (by omega)]
    exact hg
/-- a notch keeps it -/
theorem RI.no {E : gdE} {m : Nat} {r : gdR} (h : RI E m r) {p : Nat} (hp : p < 7) : RI E m (pNo E r p) := by
  obtain ⟨hBN, ho, hm, hh, hh1, ht, ht1, hw, hg⟩ := h
  have e1 : ∀ j, j ≠ 14 + p → j ≠ 21 + p → j ≠ 28 + p → pNo E r p j = r j := fun j a b c => by
    unfold pNo
    rw [rw1_ne _ _ c, rw1_ne _ _ b, rw1_ne _ _ a]
  refine ⟨hBN, fun q hq => ?_, ?_, fun q hq => ?_, fun q hq => ?_, fun k hk => ?_, fun k hk => ?_, fun q hq => ?_, ?_⟩
  · by_cases z : q = p
    · rw [z]
      unfold pNo
      rw [rw1_ne _ _ (by omega), rw1_ne _ _ (by omega), rw1_eq]
      rcases pLi_or E r (r p) with ⟨h1, -⟩ | ⟨k, h1, h2, -⟩
      · exact Or.inl h1
      · exact Or.inr ⟨k, h1, h2⟩
    · rw [e1 _ (by omega) (by omega) (by omega)]; exact ho q hq
  · rw [e1 _ (by omega) (by omega) (by omega)]; exact hm
  · rw [e1 _ (by omega) (by omega) (by omega)]; exact hh q hq
  · rw [e1 _ (by omega) (by omega) (by omega)]; exact hh1 q hq
  · rw [e1 _ (by omega) (by omega) (by omega)]; exact ht k hk
  · rw [e1 _ (by omega) (by omega) (by omega)]; exact ht1 k hk
  · rw [e1 _ (by omega) (by omega) (by omega)]; exact hw q hq
  · rw [e1 _ (by omega) (by omega) (by omega)]; exact hg
/-- a plane keeps it -/
theorem RI.pl {E : gdE} {m : Nat} {r : gdR} (h : RI E m r) {k n : Nat} (hk : k < 6) (hn : n < 1000) (h1 : Int32.ofNat n < r (42 + k)) : RI E m (pPl E r k (Int32.ofNat n)) := by
  obtain ⟨hBN, ho, hm, hh, hh1, ht, ht1, hw, hg⟩ := h
  have e1 : ∀ j, j ≠ 42 + k → ¬ (21 ≤ j ∧ j < 28) → pPl E r k (Int32.ofNat n) j = r j := fun j a b => by
    unfold pPl
    rw [if_neg a, if_neg (by omega)]
  refine ⟨hBN, fun q hq => ?_, ?_, fun q hq => ?_, fun q hq => ?_, fun q hq => ?_, fun q hq => ?_, fun q hq => ?_, ?_⟩
  · rw [e1 _ (by omega) (by omega)]; exact ho q hq
  · rw [e1 _ (by omega) (by omega)]; exact hm
  · rw [e1 _ (by omega) (by omega)]; exact hh q hq
  · rw [e1 _ (by omega) (by omega)]; exact hh1 q hq
  · by_cases z : q = k
    · rw [z]
      unfold pPl
      rw [if_pos rfl]
      obtain ⟨v, h2, h3⟩ := ht k hk
      rw [h3, j_lt (by omega) (by omega)] at h1
      rw [h3, j_sub (by omega)]
      exact ⟨_, by omega, rfl⟩
    · rw [e1 _ (by omega) (by omega)]; exact ht q hq
  · by_cases z : q = k
    · rw [z]
      unfold pPl
      rw [if_pos rfl]
      obtain ⟨v, h2, h3⟩ := ht k hk
      rw [h3, j_lt (by omega) (by omega)] at h1
      rw [h3, j_sub (by omega), show (1 : Int32) = Int32.ofNat 1 from rfl, j_le (by omega) (by omega)]
      omega
    · rw [e1 _ (by omega) (by omega)]; exact ht1 q hq
  · rw [e1 _ (by omega) (by omega)]; exact hw q hq
  · rw [e1 _ (by omega) (by omega)]; exact hg
/-- a place that is not bound -/
theorem RI.rw {E : gdE} {m : Nat} {r : gdR} (h : RI E m r) {j : Nat} {v : Int32} (hj : (7 ≤ j ∧ j < 14) ∨ (35 ≤ j ∧ j < 42 ∧ (v = 0 ∨ v = 1)) ∨ (j = 48 ∧ ∃ w, w ≤ 9 ∧ v = Int32.ofNat w)) : RI E m (rw1 r j v) := by
  obtain ⟨hBN, ho, hm, hh, hh1, ht, ht1, hw, hg⟩ := h
  refine ⟨hBN, fun q hq => ?_, ?_, fun q hq => ?_, fun q hq => ?_, fun q hq => ?_, fun q hq => ?_, fun q hq => ?_, ?_⟩
  · rw [rw1_ne r v (by omega)]; exact ho q hq
  · rw [rw1_ne r v (by omega)]; exact hm
  · rw [rw1_ne r v (by omega)]; exact hh q hq
  · rw [rw1_ne r v (by omega)]; exact hh1 q hq
  · rw [rw1_ne r v (by omega)]; exact ht q hq
  · rw [rw1_ne r v (by omega)]; exact ht1 q hq
  · by_cases z : 35 + q = j
    · rcases hj with hj | ⟨_, _, hj⟩ | ⟨hj, _⟩
      · omega
      · rw [z, rw1_eq]; exact hj
      · omega
    · rw [rw1_ne r v z]; exact hw q hq
  · by_cases z : 48 = j
    · rcases hj with hj | ⟨_, _, _⟩ | ⟨_, hj⟩
      · omega
      · omega
      · rw [← z, rw1_eq]; exact hj
    · rw [rw1_ne r v z]; exact hg
/-- a plane, some notches on -/
def pPlI (r : gdR) (k : Nat) (n : Int32) (i : Nat) : gdR := fun j => if j = 42 + k then r (42 + k) - n else if 21 ≤ j ∧ j < 21 + i ∧ r (j - 7) = Int32.ofNat k then jmin (r j) (r (42 + k) - n) else r j
theorem pPlI_N (E : gdE) (r : gdR) (k : Nat) (n : Int32) : pPlI r k n (eN E) = pPl E r k n := rfl
theorem pPlI_0 (r : gdR) (k : Nat) (n : Int32) : pPlI r k n 0 = rw1 r (42 + k) (r (42 + k) - n) := by
  funext j
  unfold rw1 pPlI
  by_cases z : j = 42 + k
  · rw [if_pos z, if_pos z]
  · rw [if_neg z, if_neg z, if_neg (by omega)]
theorem pPlI_y {r : gdR} {k i : Nat} (n : Int32) (hi : i < 7) (c : r (14 + i) = Int32.ofNat k) : pPlI r k n (i + 1) = rw1 (pPlI r k n i) (21 + i) (jmin (r (21 + i)) (r (42 + k) - n)) := by
  funext j
  unfold rw1 pPlI
  by_cases z : j = 21 + i
  · subst z
    rw [if_pos rfl, if_neg (by omega), if_pos ⟨by omega, by omega, by rw [show 21 + i - 7 = 14 + i by omega]; exact c⟩]
  · rw [if_neg z]
    by_cases z2 : j = 42 + k
    · rw [if_pos z2, if_pos z2]
    · rw [if_neg z2, if_neg z2]
      by_cases z3 : 21 ≤ j ∧ j < 21 + i ∧ r (j - 7) = Int32.ofNat k
      · rw [if_pos z3, if_pos ⟨z3.1, by omega, z3.2.2⟩]
      · rw [if_neg z3, if_neg (fun z4 => z3 ⟨z4.1, by omega, z4.2.2⟩)]
theorem pPlI_n {r : gdR} {k i : Nat} (n : Int32) (c : ¬ r (14 + i) = Int32.ofNat k) : pPlI r k n (i + 1) = pPlI r k n i := by
  funext j
  unfold pPlI
  by_cases z2 : j = 42 + k
  · rw [if_pos z2, if_pos z2]
  · rw [if_neg z2, if_neg z2]
    by_cases z3 : 21 ≤ j ∧ j < 21 + i ∧ r (j - 7) = Int32.ofNat k
    · rw [if_pos z3, if_pos ⟨z3.1, by omega, z3.2.2⟩]
    · rw [if_neg z3, if_neg (fun z4 => z3 ⟨z4.1, by
        have : j ≠ 21 + i := fun z5 => c (by have := z4.2.2; rw [z5, show 21 + i - 7 = 14 + i by omega] at this; exact this)
        omega, z4.2.2⟩)]
/-- heights a month on, else as it was; the boards below i a month on -/
def pH2 (E : gdE) (al : Int32) (r : gdR) : gdR := fun j => if j < eN E then jmin 999 (r j + pGr E al r j) else r j
def pT2 (E : gdE) (al : Int32) (r : gdR) (i : Nat) : gdR := fun j => if 42 ≤ j ∧ j < 42 + i then pTh E al r (j - 42) else r j
theorem pH2_lt {E : gdE} {al : Int32} {r : gdR} {j : Nat} (h : j < eN E) : pH2 E al r j = jmin 999 (r j + pGr E al r j) := if_pos h
theorem pH2_ge {E : gdE} {al : Int32} {r : gdR} {j : Nat} (h : eN E ≤ j) : pH2 E al r j = r j := if_neg (Nat.not_lt.mpr h)
theorem pT2_in {E : gdE} {al : Int32} {r : gdR} {i j : Nat} (h : j < i) : pT2 E al r i (42 + j) = pTh E al r j := (if_pos ⟨by omega, by omega⟩).trans (by rw [show 42 + j - 42 = j by omega])
theorem pT2_o {E : gdE} {al : Int32} {r : gdR} {i j : Nat} (h : j < 42 ∨ 42 + i ≤ j) : pT2 E al r i j = r j := if_neg (by omega)
theorem pRain_cg {E : gdE} {al : Int32} {r r' : gdR} (h : r' 49 = r 49) : pRain E al r' = pRain E al r := by unfold pRain; rw [h]
theorem pTh_cg {E : gdE} {al : Int32} {r r' : gdR} {k : Nat} (h1 : r' 49 = r 49) (h2 : r' 48 = r 48) (h3 : r' (42 + k) = r (42 + k)) : pTh E al r' k = pTh E al r k := by unfold pTh; rw [pRain_cg h1, h2, h3]
theorem pMo_o {E : gdE} {al : Int32} {r : gdR} {j : Nat} (h1 : eN E ≤ j) (h2 : j < 42 ∨ 42 + eB E ≤ j) (h3 : j ≠ 49) : pMo E al r j = r j := by
  unfold pMo
  rw [if_neg (by omega), if_neg (by omega), if_neg h3]
/-- the month's end, in two steps -/
theorem pMo_2 {E : gdE} {al : Int32} {r : gdR} (hN : eN E ≤ 7) (hB : eB E ≤ 6) {j : Nat} : pMo E al r j = if 42 ≤ j ∧ j < 42 + eB E then pTh E al (pH2 E al r) (j - 42) else if j = 49 then pH2 E al r 49 + 1 else pH2 E al r j := by
  unfold pMo
  by_cases z : 42 ≤ j ∧ j < 42 + eB E
  · rw [if_pos z, if_neg (by omega), if_pos z]
    exact (pTh_cg (pH2_ge (by omega)) (pH2_ge (by omega)) (pH2_ge (by omega))).symm
  · rw [if_neg z, if_neg z]
    by_cases z2 : j = 49
    · rw [if_pos z2, if_neg (by omega), if_pos z2, pH2_ge (by omega)]
    · rw [if_neg z2, if_neg z2]
      rfl

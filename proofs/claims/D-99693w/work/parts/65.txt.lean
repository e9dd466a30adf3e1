/-! ===== TEXTS: what both sides read, in plain numbers ===== -/
set_option maxRecDepth 100000
/-- a text: how many bytes, which -/
abbrev gdX : Type := Nat × (Nat → Nat)
def xn (X : gdX) : Nat := X.1
def xb (X : gdX) : Nat → Nat := X.2
def XO (X : gdX) : Prop := xn X ≤ 600 ∧ ∀ j, j < xn X → xb X j ≤ 255
/-- from a place on, so many at most, as long as c holds -/
def ce (c : Nat → Bool) : Nat → Nat → Nat
  | 0, p => p
  | m + 1, p => if c p = true then ce c m (p + 1) else p
theorem ce_lp {β : Type} (G K : Nat → β) (c : Nat → Bool) : ∀ (m p : Nat), (∀ j, p ≤ j → j < p + m → G j = if c j = true then G (j + 1) else K j) → G (p + m) = K (p + m) → G p = K (ce c m p)
  | 0, p, _, h => h
  | m + 1, p, hs, h => by
    rw [hs p (Nat.le_refl p) (by omega), ce]
    split
    · exact ce_lp G K c m (p + 1) (fun j a b => hs j (by omega) (by omega)) (by rw [show p + 1 + m = p + (m + 1) by omega]; exact h)
    · rfl
theorem ce_ge (c : Nat → Bool) : ∀ (m p : Nat), p ≤ ce c m p
  | 0, p => Nat.le_refl p
  | m + 1, p => by
    rw [ce]
    split
    · exact Nat.le_trans (Nat.le_succ p) (ce_ge c m (p + 1))
    · exact Nat.le_refl p
theorem ce_le (c : Nat → Bool) : ∀ (m p : Nat), ce c m p ≤ p + m
  | 0, p => Nat.le_refl p
  | m + 1, p => by
    rw [ce]
    split
    · have := ce_le c m (p + 1); omega
    · omega
theorem ce_in (c : Nat → Bool) : ∀ (m p j : Nat), p ≤ j → j < ce c m p → c j = true
  | 0, p, j, h1, h2 => by rw [ce] at h2; omega
  | m + 1, p, j, h1, h2 => by
    rw [ce] at h2
    split at h2
    next h => 
      by_cases z : j = p
      · rw [z]; exact h
      · exact ce_in c m (p + 1) j (by omega) h2
    next h => omega
theorem ce_out (c : Nat → Bool) : ∀ (m p : Nat), ce c m p < p + m → c (ce c m p) = false
  | 0, p, h => by rw [ce] at h; omega
  | m + 1, p, h => by
    rw [ce] at h ⊢
    split at h
    next hc => rw [if_pos hc]; exact ce_out c m (p + 1) (by omega)
    next hc => rw [if_neg hc]; exact Bool.eq_false_iff.mpr hc
theorem ce_no (c : Nat → Bool) (m p : Nat) (h : c p = false) : ce c m p = p := by
  cases m with
  | zero => rfl
  | succ m => rw [ce, h, if_neg (by decide)]
def sml (b : Nat) : Bool := decide (97 ≤ b ∧ b ≤ 122)
def dgt (b : Nat) : Bool := decide (48 ≤ b ∧ b ≤ 57)
def sk (X : gdX) (p : Nat) : Nat := ce (fun j => decide (xb X j = 32)) (xn X - p) p
def we (X : gdX) (p : Nat) : Nat := ce (fun j => sml (xb X j)) (xn X - p) p
def de (X : gdX) (p : Nat) : Nat := ce (fun j => dgt (xb X j)) (xn X - p) p
def ch (X : gdX) (q : Nat) : Nat := if q < xn X then xb X q else 256
theorem ch_in {X : gdX} {q : Nat} (h : q < xn X) : ch X q = xb X q := if_pos h
theorem ch_end {X : gdX} {q : Nat} (h : xn X ≤ q) : ch X q = 256 := if_neg (by omega)
theorem ch_lt {X : gdX} {q : Nat} (h : ch X q ≠ 256) : q < xn X := by
  by_cases c : q < xn X
  · exact c
  · exact absurd (if_neg c) h
theorem ch_256 {X : gdX} (hX : XO X) {q : Nat} : ch X q = 256 ↔ xn X ≤ q := by
  constructor
  · intro h
    by_cases c : q < xn X
    · have := hX.2 q c
      rw [ch_in c] at h
      omega
    · omega
  · exact ch_end
theorem sk_ge (X : gdX) (p : Nat) : p ≤ sk X p := ce_ge _ _ _
theorem sk_le {X : gdX} {p : Nat} (h : p ≤ xn X) : sk X p ≤ xn X := by have := ce_le (fun j => decide (xb X j = 32)) (xn X - p) p; unfold sk; omega
theorem sk_id {X : gdX} {p : Nat} (h : ch X p ≠ 32) : sk X p = p := by
  unfold sk
  by_cases c : p < xn X
  · exact ce_no _ _ _ (by rw [ch_in c] at h; exact decide_eq_false h)
  · rw [show xn X - p = 0 by omega]; rfl
theorem ch_sk (X : gdX) {p : Nat} (hp : p ≤ xn X) : ch X (sk X p) ≠ 32 := by
  intro h
  have h1 : sk X p < xn X := ch_lt (by omega)
  have h2 := ce_out (fun j => decide (xb X j = 32)) (xn X - p) p (by unfold sk at h1; omega)
  rw [ch_in h1] at h
  exact of_decide_eq_false h2 h
theorem sk_sk {X : gdX} {p : Nat} (hp : p ≤ xn X) : sk X (sk X p) = sk X p := sk_id (ch_sk X hp)
theorem we_ge (X : gdX) (p : Nat) : p ≤ we X p := ce_ge _ _ _
theorem we_le {X : gdX} {p : Nat} (h : p ≤ xn X) : we X p ≤ xn X := by have := ce_le (fun j => sml (xb X j)) (xn X - p) p; unfold we; omega
theorem de_ge (X : gdX) (p : Nat) : p ≤ de X p := ce_ge _ _ _
theorem de_le {X : gdX} {p : Nat} (h : p ≤ xn X) : de X p ≤ xn X := by have := ce_le (fun j => dgt (xb X j)) (xn X - p) p; unfold de; omega
/-! letters -/
def lts (B : Nat → Nat) : Nat → Nat → List Nat
  | 0, _ => []
  | m + 1, q => if sml (B q) = true then B q :: lts B m (q + 1) else []
def ltr (X : gdX) (q : Nat) : List Nat := lts (xb X) (xn X - q) q
theorem lts_len (B : Nat → Nat) : ∀ (m q : Nat), q + (lts B m q).length = ce (fun j => sml (B j)) m q
  | 0, q => rfl
  | m + 1, q => by
    rw [lts, ce]
    split
    · rw [List.length_cons, ← lts_len B m (q + 1)]; omega
    · rfl
theorem lts_at (B : Nat → Nat) : ∀ (m q i : Nat), i < (lts B m q).length → (lts B m q)[i]? = some (B (q + i))
  | 0, q, i, h => by rw [lts] at h; exact absurd h (Nat.not_lt_zero i)
  | m + 1, q, i, h => by
    rw [lts] at h ⊢
    split at h
    next hc =>
      rw [if_pos hc]
      cases i with
      | zero => rfl
      | succ i =>
        rw [List.getElem?_cons_succ, lts_at B m (q + 1) i (by rw [List.length_cons] at h; omega), show q + 1 + i = q + (i + 1) by omega]
    next hc => exact absurd h (Nat.not_lt_zero i)
theorem lts_sml (B : Nat → Nat) : ∀ (m q : Nat), ∀ c ∈ lts B m q, 97 ≤ c ∧ c ≤ 122
  | 0, q, c, h => by rw [lts] at h; cases h
  | m + 1, q, c, h => by
    rw [lts] at h
    split at h
    next hc =>
      rcases List.mem_cons.mp h with h | h
      · rw [h]; exact of_decide_eq_true hc
      · exact lts_sml B m (q + 1) c h
    next hc => cases h
theorem ltr_len (X : gdX) (q : Nat) : q + (ltr X q).length = we X q := lts_len _ _ _
theorem ltr_no {X : gdX} {q : Nat} (h : sml (ch X q) = false) : ltr X q = [] := by
  unfold ltr
  by_cases c : q < xn X
  · obtain ⟨m, e⟩ : ∃ m, xn X - q = m + 1 := ⟨xn X - q - 1, by omega⟩
    rw [ch_in c] at h
    rw [e, lts, h, if_neg (by decide)]
  · rw [show xn X - q = 0 by omega]; rfl
/-- a word as a number, five bits a letter -/
def wc (l : List Nat) : Nat := l.foldl (fun v c => v * 32 + (c - 96)) 0
theorem wc_c (l : List Nat) (c : Nat) : wc (l ++ [c]) = wc l * 32 + (c - 96) := by unfold wc; rw [List.foldl_append]; rfl
theorem nil_or_c {α : Type} (l : List α) : l = [] ∨ ∃ m b, l = m ++ [b] := by
  rcases List.eq_nil_or_concat l with h | ⟨m, b, h⟩
  · exact Or.inl h
  · exact Or.inr ⟨m, b, h.trans (List.concat_eq_append ..)⟩
theorem wc_inj : ∀ (n : Nat) (l l' : List Nat), l.length ≤ n → (∀ c ∈ l, 97 ≤ c ∧ c ≤ 122) → (∀ c ∈ l', 97 ≤ c ∧ c ≤ 122) → wc l = wc l' → l = l' := by
  intro n
  induction n with
  | zero =>
    intro l l' hn h1 h2 e
    have : l = [] := List.length_eq_zero_iff.mp (by omega)
    subst this
    rcases nil_or_c l' with h | ⟨m, b, h⟩
    · exact h.symm
    · subst h
      have hb := h2 b (by simp)
      rw [wc_c] at e
      have : wc [] = 0 := rfl
      omega
  | succ n ih =>
    intro l l' hn h1 h2 e
    rcases nil_or_c l with h | ⟨m, b, h⟩
    · subst h
      exact ih [] l' (by simp) h1 h2 e
    · subst h
      have hb := h1 b (by simp)
      rcases nil_or_c l' with h | ⟨m', b', h⟩
      · subst h
        rw [wc_c] at e
        have : wc [] = 0 := rfl
        omega
      · subst h
        have hb' := h2 b' (by simp)
        rw [wc_c, wc_c] at e
        have e1 : wc m = wc m' := by omega
        have e2 : b = b' := by omega
        rw [ih m m' (by simp at hn; omega) (fun c hc => h1 c (by simp [hc])) (fun c hc => h2 c (by simp [hc])) e1, e2]
theorem wc_lt : ∀ (n : Nat) (l : List Nat), l.length ≤ n → (∀ c ∈ l, 97 ≤ c ∧ c ≤ 122) → wc l < 32 ^ n := by
  intro n
  induction n with
  | zero => intro l hn _; have : l = [] := List.length_eq_zero_iff.mp (by omega); subst this; decide
  | succ n ih =>
    intro l hn h1
    rcases nil_or_c l with h | ⟨m, b, h⟩
    · subst h; exact Nat.pow_pos (by decide)
    · subst h
      have hb := h1 b (by simp)
      have := ih m (by simp at hn; omega) (fun c hc => h1 c (by simp [hc]))
      rw [wc_c, Nat.pow_succ]
      omega
/-! tokens -/
abbrev gdQ (α : Type) : Type := (Nat × Nat) ⊕ (Nat × α)
def qb {α β : Type} : gdQ α → (Nat → α → gdQ β) → gdQ β
  | .inl e, _ => .inl e
  | .inr (p, a), f => f p a
theorem qb_l {α β : Type} (e : Nat × Nat) (f : Nat → α → gdQ β) : qb (.inl e) f = .inl e := rfl
theorem qb_r {α β : Type} (p : Nat) (a : α) (f : Nat → α → gdQ β) : qb (.inr (p, a)) f = f p a := rfl
def tS (X : gdX) (c p : Nat) : gdQ Unit := if ch X (sk X p) = c then .inr (sk X p + 1, ()) else .inl (1, sk X p)
def dv (B : Nat → Nat) : Nat → Nat → Nat → Nat
  | 0, _, v => v
  | m + 1, q, v => dv B m (q + 1) (min (10 * v + (B q - 48)) 10000)
def tN (X : gdX) (lo hs p : Nat) : gdQ Nat :=
  if dgt (ch X (sk X p)) = true then
    (if lo ≤ dv (xb X) (de X (sk X p) - sk X p) (sk X p) 0 ∧ dv (xb X) (de X (sk X p) - sk X p) (sk X p) 0 < hs then .inr (de X (sk X p), dv (xb X) (de X (sk X p) - sk X p) (sk X p) 0) else .inl (2, sk X p))
  else .inl (1, sk X p)
/-- what an end of a reading is: a fault in the text, or a place further on and something -/
def QG {α : Type} (X : gdX) (p : Nat) (Q : Nat → α → Prop) : gdQ α → Prop
  | .inl (k, pl) => (1 ≤ k ∧ k ≤ 3) ∧ pl ≤ xn X
  | .inr (p', a) => p < p' ∧ p' ≤ xn X ∧ Q p' a
theorem QG.mono {α : Type} {X : gdX} {p : Nat} {Q Q' : Nat → α → Prop} {r : gdQ α} (h : QG X p Q r) (w : ∀ p' a, p < p' → p' ≤ xn X → Q p' a → Q' p' a) : QG X p Q' r := by
  rcases r with ⟨k, pl⟩ | ⟨p', a⟩
  · exact h
  · exact ⟨h.1, h.2.1, w p' a h.1 h.2.1 h.2.2⟩
theorem QG.qb {α β : Type} {X : gdX} {p p0 : Nat} {Q : Nat → α → Prop} {Q' : Nat → β → Prop} {r : gdQ α} {f : Nat → α → gdQ β} (h : QG X p0 Q r) (hp : p ≤ p0) (w : ∀ p' a, p0 < p' → p' ≤ xn X → Q p' a → QG X p Q' (f p' a)) : QG X p Q' (qb r f) := by
  rcases r with ⟨k, pl⟩ | ⟨p', a⟩
  · exact h
  · exact w p' a h.1 h.2.1 h.2.2
theorem tS_g {X : gdX} {c p : Nat} (hc : c ≠ 256) (hp : p ≤ xn X) : QG X p (fun p' _ => ch X (p' - 1) = c) (tS X c p) := by
  unfold tS
  have h1 := sk_ge X p
  have h2 := sk_le hp
  split
  next h =>
    have := ch_lt (X := X) (q := sk X p) (by omega)
    exact ⟨by omega, by omega, h⟩
  next h => exact ⟨by omega, h2⟩
theorem dgt_lt {X : gdX} {q : Nat} (h : dgt (ch X q) = true) : q < xn X ∧ xb X q = ch X q := by
  have h1 : q < xn X := ch_lt (fun e => by rw [e] at h; exact absurd h (by decide))
  exact ⟨h1, (ch_in h1).symm⟩
theorem de_gt {X : gdX} {q : Nat} (h : dgt (ch X q) = true) : q < de X q := by
  obtain ⟨h1, h2⟩ := dgt_lt h
  unfold de
  obtain ⟨m, e⟩ : ∃ m, xn X - q = m + 1 := ⟨xn X - q - 1, by omega⟩
  rw [e, ce, h2, h, if_pos rfl]
  exact ce_ge _ _ _
theorem tN_g {X : gdX} {lo hs p : Nat} (hp : p ≤ xn X) : QG X p (fun _ v => lo ≤ v ∧ v < hs) (tN X lo hs p) := by
  unfold tN
  have h1 := sk_ge X p
  have h2 := sk_le hp
  split
  next h =>
    have h3 := de_gt h
    have h4 := de_le h2
    split
    next h5 => exact ⟨by omega, h4, h5⟩
    next h5 => exact ⟨by omega, h2⟩
  next h => exact ⟨by omega, h2⟩
/-- no word at a sign, none at a digit -/
theorem ltr_ne {X : gdX} {q : Nat} (h : ltr X q ≠ []) : sml (ch X q) = true ∧ q < we X q ∧ q < xn X := by
  have h1 : sml (ch X q) = true := by
    cases c : sml (ch X q) with
    | true => rfl
    | false => exact absurd (ltr_no c) h
  have h2 := ltr_len X q
  have h3 : 0 < (ltr X q).length := List.length_pos_iff.mpr h
  exact ⟨h1, by omega, ch_lt (fun e => by rw [e] at h1; exact absurd h1 (by decide))⟩

/-! ===== A LAW, READ: codes and what they say ===== -/
set_option maxRecDepth 100000
abbrev gdK : Type := List (Nat × Nat) × gdV
def sgS (c : Nat) : Nat := if c = 43 then 2 else if c = 45 then 3 else 0
def sgP (c : Nat) : Nat := if c = 42 then 4 else if c = 47 then 5 else if c = 37 then 8 else 0
def kBin (k : Nat) (a b : gdK) : gdK := (a.1 ++ b.1 ++ [(k, 0)], fun F => pBin k (a.2 F) (b.2 F))
def lLp (X : gdX) (sg : Nat → Nat) (nx : Nat → gdQ gdK) : Nat → Nat → gdK → gdQ gdK
  | 0, p, a => .inr (sk X p, a)
  | f + 1, p, a => if sg (ch X (sk X p)) = 0 then .inr (sk X p, a) else qb (nx (sk X p + 1)) fun p' b => lLp X sg nx f p' (kBin (sg (ch X (sk X p))) a b)
def lPr (X : gdX) (u : Nat → gdQ gdK) (p : Nat) : gdQ gdK := qb (u p) fun p' a => lLp X sgP u (xn X + 1) p' a
def lSu (X : gdX) (u : Nat → gdQ gdK) (p : Nat) : gdQ gdK := qb (lPr X u p) fun p' a => lLp X sgS (lPr X u) (xn X + 1) p' a
def wLe : List Nat := [108, 101, 97, 115, 116]
def wMo : List Nat := [109, 111, 115, 116]
def wFa : List (List Nat) := [[102, 111, 111, 100], [104, 105, 103, 104], [107, 105, 110], [114, 97, 105, 110], [103, 97, 105, 110], [109, 111, 110, 116, 104], [100, 111, 111, 114], [98, 111, 121]]
/-- which of some words, from the k-th on; how many there are: none -/
def wix (w : List Nat) : List (List Nat) → Nat
  | [] => 0
  | v :: vs => if w = v then 0 else wix w vs + 1
/-- a value; big: one may open yet, S reads a sum within -/
def lUb (X : gdX) (big : Bool) (S : Nat → gdQ gdK) (p : Nat) : gdQ gdK :=
  if ltr X (sk X p) = wLe ∨ ltr X (sk X p) = wMo then
    (if big = true then qb (tS X 91 (sk X p + (ltr X (sk X p)).length)) fun p1 _ => qb (S p1) fun p2 a => qb (tS X 44 p2) fun p3 _ => qb (S p3) fun p4 b => qb (tS X 93 p4) fun p5 _ => .inr (p5, kBin (if ltr X (sk X p) = wLe then 6 else 7) a b) else .inl (3, sk X p))
  else if ch X (sk X p) = 40 then (if big = true then qb (S (sk X p + 1)) fun p2 a => qb (tS X 41 p2) fun p3 _ => .inr (p3, a) else .inl (3, sk X p))
  else if wix (ltr X (sk X p)) wFa < 8 then .inr (sk X p + (ltr X (sk X p)).length, ([(1, wix (ltr X (sk X p)) wFa)], fun F => F (wix (ltr X (sk X p)) wFa)))
  else qb (tN X 0 1000 p) fun p' v => .inr (p', ([(0, v)], fun _ => Int32.ofNat v))
def lUn (X : gdX) : Nat → Nat → gdQ gdK
  | 0, p => lUb X false (fun _ => .inl (0, 0)) p
  | m + 1, p => lUb X true (fun q => lSu X (fun r => lUn X m r) q) p
def lLaw (X : gdX) : gdQ gdK := qb (lSu X (lUn X 6) 0) fun p a => if sk X p < xn X then .inl (1, sk X p) else .inr (sk X p, a)
theorem lUn_0 (X : gdX) : lUn X 0 = lUb X false (fun _ => .inl (0, 0)) := rfl
theorem lUn_s (X : gdX) (m : Nat) : lUn X (m + 1) = lUb X true (lSu X (lUn X m)) := rfl
/-- what a law that was read is -/
def KG (p : Nat) (p' : Nat) (a : gdK) : Prop := den (p' - p) a.1 a.2 ∧ a.1.length ≤ p' - p
theorem kBin_g {p p1 p2 p' k : Nat} {a b : gdK} (hk : 2 ≤ k ∧ k ≤ 8) (ha : KG p p1 a) (hb : KG p2 p' b) (h1 : p ≤ p1) (h2 : p1 < p2) (h3 : p2 ≤ p') : KG p p' (kBin k a b) := by
  refine ⟨?_, ?_⟩
  · obtain ⟨n, e⟩ : ∃ n, p' - p = n + 1 := ⟨p' - p - 1, by omega⟩
    rw [e]
    exact Or.inr (Or.inr ⟨k, a.1, b.1, a.2, b.2, hk, den_le (by omega) ha.1, den_le (by omega) hb.1, rfl, rfl⟩)
  · unfold kBin
    simp only [List.length_append, List.length_cons, List.length_nil]
    have := ha.2
    have := hb.2
    omega
theorem KG.up {p p1 p' : Nat} {a : gdK} (ha : KG p p1 a) (h : p1 ≤ p') : KG p p' a := ⟨den_le (by omega) ha.1, by have := ha.2; omega⟩
theorem sgS_or {X : gdX} {q : Nat} (h : sgS (ch X q) ≠ 0) : (2 ≤ sgS (ch X q) ∧ sgS (ch X q) ≤ 8) ∧ q < xn X := by
  refine ⟨?_, ch_lt (fun e => h (by rw [e]; rfl))⟩
  unfold sgS at h ⊢
  split
  · decide
  · split
    · decide
    · rename_i h1 h2; rw [if_neg h1, if_neg h2] at h; exact absurd rfl h
theorem sgP_or {X : gdX} {q : Nat} (h : sgP (ch X q) ≠ 0) : (2 ≤ sgP (ch X q) ∧ sgP (ch X q) ≤ 8) ∧ q < xn X := by
  refine ⟨?_, ch_lt (fun e => h (by rw [e]; rfl))⟩
  unfold sgP at h ⊢
  split
  · decide
  · split
    · decide
    · split
      · decide
      · rename_i h1 h2 h3; rw [if_neg h1, if_neg h2, if_neg h3] at h; exact absurd rfl h
theorem lLp_g {X : gdX} {sg : Nat → Nat} {nx : Nat → gdQ gdK} (hs : ∀ q, sg (ch X q) ≠ 0 → (2 ≤ sg (ch X q) ∧ sg (ch X q) ≤ 8) ∧ q < xn X) (hn : ∀ p, p ≤ xn X → QG X p (KG p) (nx p)) {p0 : Nat} : ∀ (f p : Nat) (a : gdK), p0 < p → p ≤ xn X → KG p0 p a → QG X p0 (KG p0) (lLp X sg nx f p a)
  | 0, p, a, h1, h2, h3 => ⟨Nat.lt_of_lt_of_le h1 (sk_ge X p), sk_le h2, h3.up (sk_ge X p)⟩
  | f + 1, p, a, h1, h2, h3 => by
    have g1 := sk_ge X p
    have g2 := sk_le h2
    rw [lLp]
    split
    next c => exact ⟨Nat.lt_of_lt_of_le h1 g1, g2, h3.up g1⟩
    next c =>
      obtain ⟨hk, hq⟩ := hs _ c
      refine QG.qb (hn _ (by omega)) (p := p0) (by omega) fun p' b a1 a2 a3 => ?_
      exact lLp_g hs hn f p' _ (by omega) a2 (kBin_g hk h3 a3 (by omega) (by omega) (by omega))
theorem lPr_g {X : gdX} {u : Nat → gdQ gdK} (hu : ∀ p, p ≤ xn X → QG X p (KG p) (u p)) {p : Nat} (hp : p ≤ xn X) : QG X p (KG p) (lPr X u p) :=
  QG.qb (hu p hp) (Nat.le_refl p) fun p' a a1 a2 a3 => lLp_g (fun q h => sgP_or h) hu _ p' a a1 a2 a3
theorem lSu_g {X : gdX} {u : Nat → gdQ gdK} (hu : ∀ p, p ≤ xn X → QG X p (KG p) (u p)) {p : Nat} (hp : p ≤ xn X) : QG X p (KG p) (lSu X u p) :=
  QG.qb (lPr_g hu hp) (Nat.le_refl p) fun p' a a1 a2 a3 => lLp_g (fun q h => sgS_or h) (fun p hp => lPr_g hu hp) _ p' a a1 a2 a3
theorem lUb_g {X : gdX} {big : Bool} {S : Nat → gdQ gdK} (hS : big = true → ∀ p, p ≤ xn X → QG X p (KG p) (S p)) {p : Nat} (hp : p ≤ xn X) : QG X p (KG p) (lUb X big S p) := by
  have g1 := sk_ge X p
  have g2 := sk_le hp
  unfold lUb
  split
  next hw =>
    split
    next hb =>
      have g3 := ltr_len X (sk X p)
      have g4 := we_le g2
      refine QG.qb (tS_g (by decide) (by omega)) (p := p) (by omega) fun p1 _ a1 a2 _ => ?_
      refine QG.qb (hS hb p1 a2) (by omega) fun p2 a b1 b2 b3 => ?_
      refine QG.qb (tS_g (by decide) b2) (by omega) fun p3 _ c1 c2 _ => ?_
      refine QG.qb (hS hb p3 c2) (by omega) fun p4 b d1 d2 d3 => ?_
      refine QG.qb (tS_g (by decide) d2) (by omega) fun p5 _ e1 e2 _ => ?_
      refine ⟨by omega, e2, ?_⟩
      have hk : 2 ≤ (if ltr X (sk X p) = wLe then 6 else 7) ∧ (if ltr X (sk X p) = wLe then 6 else 7) ≤ 8 := by split <;> decide
      have := kBin_g hk b3 (d3.up (p' := p5) (by omega)) (by omega) (by omega) (by omega)
      exact ⟨den_le (by omega) this.1, by have := this.2; omega⟩
    next hb => exact ⟨by omega, g2⟩
  next hw =>
    split
    next hc =>
      have g5 := ch_lt (X := X) (q := sk X p) (by omega)
      split
      next hb =>
        refine QG.qb (hS hb _ (by omega)) (p := p) (by omega) fun p2 a b1 b2 b3 => ?_
        refine QG.qb (tS_g (by decide) b2) (by omega) fun p3 _ c1 c2 _ => ?_
        exact ⟨by omega, c2, den_le (by omega) b3.1, by have := b3.2; omega⟩
      next hb => exact ⟨by omega, g2⟩
    next hc =>
      split
      next hf =>
        have g3 := ltr_len X (sk X p)
        have g4 := we_le g2
        have g6 : ltr X (sk X p) ≠ [] := fun e => by rw [e] at hf; exact absurd hf (by decide)
        have g7 := List.length_pos_iff.mpr g6
        refine ⟨by omega, by omega, ?_, by simp only [List.length_cons, List.length_nil]; omega⟩
        obtain ⟨n, e⟩ : ∃ n, sk X p + (ltr X (sk X p)).length - p = n + 1 := ⟨sk X p + (ltr X (sk X p)).length - p - 1, by omega⟩
        rw [e]
        exact Or.inr (Or.inl ⟨_, hf, rfl, rfl⟩)
      next hf =>
        refine QG.qb (tN_g hp) (Nat.le_refl p) fun p' v a1 a2 a3 => ?_
        refine ⟨a1, a2, ?_, by simp only [List.length_cons, List.length_nil]; omega⟩
        obtain ⟨n, e⟩ : ∃ n, p' - p = n + 1 := ⟨p' - p - 1, by omega⟩
        rw [e]
        exact Or.inl ⟨v, by omega, rfl, rfl⟩
theorem lUn_g {X : gdX} : ∀ (m : Nat) {p : Nat}, p ≤ xn X → QG X p (KG p) (lUn X m p)
  | 0, p, hp => by rw [lUn_0]; exact lUb_g (fun e => by cases e) hp
  | m + 1, p, hp => by rw [lUn_s]; exact lUb_g (fun _ p hp => lSu_g (fun p hp => lUn_g m hp) hp) hp
theorem lLaw_g (X : gdX) : QG X 0 (KG 0) (lLaw X) := by
  refine QG.qb (lSu_g (fun p hp => lUn_g 6 hp) (Nat.zero_le _)) (Nat.le_refl 0) fun p' a a1 a2 a3 => ?_
  have g1 := sk_ge X p'
  have g2 := sk_le a2
  split
  next h => exact ⟨by omega, by omega⟩
  next h => exact ⟨by omega, g2, a3.up g1⟩

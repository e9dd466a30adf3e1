/-! ===== BOOK, SCHOOL, WORK, READ ===== -/
set_option maxRecDepth 100000
def QE {α : Type} (X : gdX) (p : Nat) (Q : Nat → α → Prop) : gdQ α → Prop
  | .inl (k, pl) => (1 ≤ k ∧ k ≤ 3) ∧ pl ≤ xn X
  | .inr (p', a) => p ≤ p' ∧ p' ≤ xn X ∧ Q p' a
theorem QG_e {α β : Type} {X : gdX} {p p0 : Nat} {Q : Nat → α → Prop} {Q' : Nat → β → Prop} {r : gdQ α} {f : Nat → α → gdQ β} (h : QG X p0 Q r) (hp : p ≤ p0) (w : ∀ p' a, p0 < p' → p' ≤ xn X → Q p' a → QE X p Q' (f p' a)) : QE X p Q' (qb r f) := by
  rcases r with ⟨k, pl⟩ | ⟨p', a⟩
  · exact h
  · exact w p' a h.1 h.2.1 h.2.2
theorem QE_b {α β : Type} {X : gdX} {p p0 : Nat} {Q : Nat → α → Prop} {Q' : Nat → β → Prop} {r : gdQ α} {f : Nat → α → gdQ β} (h : QE X p0 Q r) (hp : p < p0) (w : ∀ p' a, p0 ≤ p' → p' ≤ xn X → Q p' a → QG X p Q' (f p' a)) : QG X p Q' (qb r f) := by
  rcases r with ⟨k, pl⟩ | ⟨p', a⟩
  · exact h
  · exact w p' a h.1 h.2.1 h.2.2
/-! the book: how many lines; of each month how high, or none -/
abbrev gdB : Type := Nat × (Nat → Int32)
def bOne (X : gdX) (a : gdB) (p : Nat) : gdQ gdB := qb (tN X 1 13 p) fun p1 m => if a.2 m ≠ -1 then .inl (2, sk X p) else if a.1 = 6 then .inl (3, sk X p) else qb (tN X 0 1000 p1) fun p2 v => qb (tS X 59 p2) fun p3 _ => .inr (p3, (a.1 + 1, rw1 a.2 m (Int32.ofNat v)))
def bLp (X : gdX) : Nat → Nat → gdB → gdQ gdB
  | 0, p, a => .inr (sk X p, a)
  | f + 1, p, a => if ch X (sk X p) = 256 then .inr (sk X p, a) else qb (bOne X a p) fun p' b => bLp X f p' b
def bBook (X : gdX) : gdQ gdB := bLp X (xn X + 1) 0 (0, fun _ => -1)
theorem bOne_g {X : gdX} {a : gdB} {p : Nat} (ha : a.1 ≤ 6) (hp : p ≤ xn X) : QG X p (fun _ b => b.1 ≤ 6) (bOne X a p) := by
  have g2 := sk_le hp
  refine QG.qb (tN_g hp) (Nat.le_refl p) fun p1 m a1 a2 a3 => ?_
  split
  · exact ⟨by omega, g2⟩
  · split
    · exact ⟨by omega, g2⟩
    · refine QG.qb (tN_g a2) (by omega) fun p2 v b1 b2 b3 => ?_
      refine QG.qb (tS_g (by decide) b2) (by omega) fun p3 _ c1 c2 _ => ?_
      exact ⟨by omega, c2, by show a.1 + 1 ≤ 6; omega⟩
/-! a school: boards, boys; thick, grows; high, food; kin; rain -/
abbrev gdS : Type := (Nat × Nat) × (gdR × gdR) × (gdR × gdR) × gdR × gdR
def scB (a : gdS) : Nat := a.1.1
def scN (a : gdS) : Nat := a.1.2
def scT (a : gdS) : gdR := a.2.1.1
def scG (a : gdS) : gdR := a.2.1.2
def scH (a : gdS) : gdR := a.2.2.1.1
def scF (a : gdS) : gdR := a.2.2.1.2
def scK (a : gdS) : gdR := a.2.2.2.1
def scR (a : gdS) : gdR := a.2.2.2.2
def wSc : List (List Nat) := [[98, 111, 97, 114, 100], [98, 111, 121], [107, 105, 110], [114, 97, 105, 110]]
def kKin (K : gdR) (x y : Nat) : gdR := rw1 (rw1 K x (K x ||| ((1 : Int32) <<< (Int32.ofNat y &&& 31)))) y (rw1 K x (K x ||| ((1 : Int32) <<< (Int32.ofNat y &&& 31))) y ||| ((1 : Int32) <<< (Int32.ofNat x &&& 31)))
def sCl (X : gdX) (k : Nat) (a : gdS) (p : Nat) : gdQ gdS :=
  if k = 0 then qb (tN X 1 61 p) fun p1 v => qb (tN X 0 10 p1) fun p2 w => .inr (p2, ((scB a + 1, scN a), (rw1 (scT a) (scB a) (Int32.ofNat v), rw1 (scG a) (scB a) (Int32.ofNat w)), a.2.2.1, scK a, scR a))
  else if k = 1 then qb (tN X 1 201 p) fun p1 v => qb (tN X 0 10 p1) fun p2 w => .inr (p2, ((scB a, scN a + 1), a.2.1, (rw1 (scH a) (scN a) (Int32.ofNat v), rw1 (scF a) (scN a) (Int32.ofNat w)), scK a, scR a))
  else if k = 2 then qb (tN X 0 (scN a) p) fun p1 x => qb (tN X 0 (scN a) p1) fun p2 y => if x = y then .inl (2, sk X p1) else .inr (p2, (a.1, a.2.1, a.2.2.1, kKin (scK a) x y, scR a))
  else qb (tN X 0 12 p) fun p1 m => qb (tN X 0 10 p1) fun p2 v => .inr (p2, (a.1, a.2.1, a.2.2.1, scK a, rw1 (scR a) m (Int32.ofNat v)))
def sFull (c k : Nat) (a : gdS) : Bool := decide (c = 60 ∨ (k = 0 ∧ scB a = 6) ∨ (k = 1 ∧ scN a = 7))
def sOne (X : gdX) (c : Nat) (a : gdS) (p : Nat) : gdQ gdS :=
  if wix (ltr X (sk X p)) wSc = 4 then .inl (1, sk X p) else if sFull c (wix (ltr X (sk X p)) wSc) a = true then .inl (3, sk X p) else
  qb (sCl X (wix (ltr X (sk X p)) wSc) a (sk X p + (ltr X (sk X p)).length)) fun p1 b => qb (tS X 59 p1) fun p2 _ => .inr (p2, b)
def sLp (X : gdX) : Nat → Nat → Nat → gdS → gdQ gdS
  | 0, _, p, a => .inr (sk X p, a)
  | f + 1, c, p, a => if ch X (sk X p) = 256 then .inr (sk X p, a) else qb (sOne X c a p) fun p' b => sLp X f (c + 1) p' b
def s0 : gdS := ((0, 0), (fun _ => 0, fun _ => 0), (fun _ => 0, fun _ => 0), fun _ => 0, fun _ => 3)
def sSch (X : gdX) : gdQ gdS := sLp X (xn X + 1) 0 0 s0
/-- small numbers -/
def SmI (lo hi : Nat) (v : Int32) : Prop := ∃ n, (lo ≤ n ∧ n ≤ hi) ∧ v = Int32.ofNat n
def SG (a : gdS) : Prop := (scB a ≤ 6 ∧ scN a ≤ 7) ∧ (∀ k, (k < scB a → SmI 1 60 (scT a k) ∧ SmI 0 9 (scG a k)) ∧ (scB a ≤ k → scT a k = 0)) ∧ (∀ p, (p < scN a → SmI 1 200 (scH a p) ∧ SmI 0 9 (scF a p)) ∧ (scN a ≤ p → scH a p = 0 ∧ scF a p = 0)) ∧ ∀ m, SmI 0 9 (scR a m)
theorem s0_g : SG s0 := ⟨⟨by decide, by decide⟩, fun k => ⟨fun h => absurd h (Nat.not_lt_zero k), fun _ => rfl⟩, fun k => ⟨fun h => absurd h (Nat.not_lt_zero k), fun _ => ⟨rfl, rfl⟩⟩, fun _ => ⟨3, by decide, rfl⟩⟩
theorem wix_le (w : List Nat) : ∀ l : List (List Nat), wix w l ≤ l.length
  | [] => Nat.le_refl 0
  | v :: vs => by
    rw [wix, List.length_cons]
    split
    · omega
    · have := wix_le w vs; omega
theorem wSc_ne {w : List Nat} (h : wix w wSc ≠ 4) : w ≠ [] := fun e => h (by rw [e]; decide)
theorem sCl_g {X : gdX} {k c : Nat} {a : gdS} {p : Nat} (ha : SG a) (hf : ¬ sFull c k a = true) (hp : p ≤ xn X) : QG X p (fun _ b => SG b) (sCl X k a p) := by
  obtain ⟨⟨hB, hN⟩, hT, hH, hR⟩ := ha
  unfold sFull at hf
  rw [decide_eq_true_eq] at hf
  unfold sCl
  split
  next k0 =>
    refine QG.qb (tN_g hp) (Nat.le_refl p) fun p1 v a1 a2 a3 => ?_
    refine QG.qb (tN_g a2) (by omega) fun p2 w b1 b2 b3 => ?_
    refine ⟨by omega, b2, ⟨by show scB a + 1 ≤ 6; omega, hN⟩, fun k => ⟨fun hk => ?_, fun hk => ?_⟩, hH, hR⟩
    · by_cases z : k = scB a
      · exact ⟨⟨v, by omega, if_pos z⟩, ⟨w, by omega, if_pos z⟩⟩
      · have hk : k < scB a + 1 := hk
        obtain ⟨y1, y2⟩ := (hT k).1 (by omega)
        exact ⟨by show SmI 1 60 (rw1 (scT a) (scB a) _ k); rw [rw1_ne _ _ z]; exact y1, by show SmI 0 9 (rw1 (scG a) (scB a) _ k); rw [rw1_ne _ _ z]; exact y2⟩
    · have hk : scB a + 1 ≤ k := hk
      show rw1 (scT a) (scB a) _ k = 0
      rw [rw1_ne _ _ (by omega)]
      exact (hT k).2 (by omega)
  next k0 =>
    split
    next k1 =>
      refine QG.qb (tN_g hp) (Nat.le_refl p) fun p1 v a1 a2 a3 => ?_
      refine QG.qb (tN_g a2) (by omega) fun p2 w b1 b2 b3 => ?_
      refine ⟨by omega, b2, ⟨hB, by show scN a + 1 ≤ 7; omega⟩, hT, fun k => ⟨fun hk => ?_, fun hk => ?_⟩, hR⟩
      · by_cases z : k = scN a
        · exact ⟨⟨v, by omega, if_pos z⟩, ⟨w, by omega, if_pos z⟩⟩
        · have hk : k < scN a + 1 := hk
          obtain ⟨y1, y2⟩ := (hH k).1 (by omega)
          exact ⟨by show SmI 1 200 (rw1 (scH a) (scN a) _ k); rw [rw1_ne _ _ z]; exact y1, by show SmI 0 9 (rw1 (scF a) (scN a) _ k); rw [rw1_ne _ _ z]; exact y2⟩
      · have hk : scN a + 1 ≤ k := hk
        obtain ⟨y1, y2⟩ := (hH k).2 (by omega)
        exact ⟨by show rw1 (scH a) (scN a) _ k = 0; rw [rw1_ne _ _ (by omega)]; exact y1, by show rw1 (scF a) (scN a) _ k = 0; rw [rw1_ne _ _ (by omega)]; exact y2⟩
    next k1 =>
      split
      next k2 =>
        refine QG.qb (tN_g hp) (Nat.le_refl p) fun p1 x a1 a2 a3 => ?_
        refine QG.qb (tN_g a2) (by omega) fun p2 y b1 b2 b3 => ?_
        split
        · exact ⟨by omega, sk_le a2⟩
        · exact ⟨by omega, b2, ⟨hB, hN⟩, hT, hH, hR⟩
      next k2 =>
        refine QG.qb (tN_g hp) (Nat.le_refl p) fun p1 m a1 a2 a3 => ?_
        refine QG.qb (tN_g a2) (by omega) fun p2 v b1 b2 b3 => ?_
        refine ⟨by omega, b2, ⟨hB, hN⟩, hT, hH, fun j => ?_⟩
        by_cases z : j = m
        · exact ⟨v, by omega, if_pos z⟩
        · show SmI 0 9 (rw1 (scR a) m _ j)
          rw [rw1_ne _ _ z]; exact hR j
theorem sOne_g {X : gdX} {c : Nat} {a : gdS} {p : Nat} (ha : SG a) (hp : p ≤ xn X) : QG X p (fun _ b => SG b) (sOne X c a p) := by
  have g1 := sk_ge X p
  have g2 := sk_le hp
  unfold sOne
  split
  next h => exact ⟨by omega, g2⟩
  next h =>
    have g3 := ltr_len X (sk X p)
    have g4 := we_le g2
    split
    next h2 => exact ⟨by omega, g2⟩
    next h2 =>
      refine QG.qb (sCl_g ha h2 (by omega)) (p := p) (by omega) fun p1 b a1 a2 a3 => ?_
      refine QG.qb (tS_g (by decide) a2) (by omega) fun p2 _ b1 b2 _ => ?_
      exact ⟨by omega, b2, a3⟩
/-! work: steps (what, of which, a number; 7: again, how often, of how many steps), and what they do to a row, how many were begun, done, refused -/
abbrev gdT : Type := gdR × Nat × Nat × Nat
abbrev gdY : Type := List (Nat × Nat × Nat) × (gdT → gdT)
def pStB (E : gdE) (k a b : Nat) (r : gdR) : Bool :=
  if k = 0 then pNoB E r a else if k = 1 then !decide (r (7 + a) = Int32.ofNat b) else if k = 2 then !decide (r 48 = Int32.ofNat a) else if k = 3 then decide (Int32.ofNat b < r (42 + a)) else if k = 4 then !decide (r (35 + a) = 0) else if k = 5 then !decide (r (35 + a) = 1) else !decide (r 49 = 400)
def pSt (E : gdE) (k a b : Nat) (r : gdR) : gdR :=
  if k = 0 then pNo E r a else if k = 1 then rw1 r (7 + a) (Int32.ofNat b) else if k = 2 then rw1 r 48 (Int32.ofNat a) else if k = 3 then pPl E r a (Int32.ofNat b) else if k = 4 then rw1 r (35 + a) 0 else if k = 5 then rw1 r (35 + a) 1 else pMo E (-1) r
def gu (V : gdT → gdT) (s : gdT) : gdT := if s.2.1 < 200 then V s else s
def pOne (E : gdE) (k a b : Nat) (s : gdT) : gdT := if pStB E k a b s.1 = true then (pSt E k a b s.1, s.2.1 + 1, s.2.2.1 + 1, s.2.2.2) else (s.1, s.2.1 + 1, s.2.2.1, s.2.2.2 + 1)
def itr (V : gdT → gdT) : Nat → gdT → gdT
  | 0, s => s
  | n + 1, s => V (itr V n s)
def pAg (t : Nat) (V : gdT → gdT) (s : gdT) : gdT := itr V t (s.1, s.2.1 + 1, s.2.2.1, s.2.2.2)
/-- a step of its kind -/
def POK (E : gdE) (k a b : Nat) : Prop := (k = 0 ∧ a < eN E ∧ b = 0) ∨ (k = 1 ∧ a < eN E ∧ b < 10) ∨ (k = 2 ∧ a < 10 ∧ b = 0) ∨ (k = 3 ∧ a < eB E ∧ 1 ≤ b ∧ b < 10) ∨ (k = 4 ∧ a < eN E ∧ b = 0) ∨ (k = 5 ∧ a < eN E ∧ b = 0) ∨ (k = 6 ∧ a = 0 ∧ b = 0)
/-- steps and what they do: a row of them (false), one (true) -/
def wd (E : gdE) : Nat → Bool → List (Nat × Nat × Nat) → (gdT → gdT) → Prop
  | 0, _, _, _ => False
  | n + 1, false, cs, V => (cs = [] ∧ V = fun s => s) ∨ ∃ c1 V1 c2 V2, wd E n false c1 V1 ∧ wd E n true c2 V2 ∧ cs = c1 ++ c2 ∧ V = fun s => gu V2 (V1 s)
  | n + 1, true, cs, V => (∃ k a b, POK E k a b ∧ cs = [(k, a, b)] ∧ V = pOne E k a b) ∨ ∃ t c V1, t ≤ 30 ∧ wd E n false c V1 ∧ cs = (7, t, c.length) :: c ∧ V = pAg t V1
theorem wd_up (E : gdE) : ∀ (n : Nat) (b : Bool) (cs : List (Nat × Nat × Nat)) (V : gdT → gdT), wd E n b cs V → wd E (n + 1) b cs V
  | 0, _, _, _, h => by rw [wd] at h; exact h.elim
  | n + 1, false, cs, V, h => by
    rw [wd] at h ⊢
    rcases h with h | ⟨c1, V1, c2, V2, h1, h2, h3, h4⟩
    · exact Or.inl h
    · exact Or.inr ⟨c1, V1, c2, V2, wd_up E n _ _ _ h1, wd_up E n _ _ _ h2, h3, h4⟩
  | n + 1, true, cs, V, h => by
    rw [wd] at h ⊢
    rcases h with h | ⟨t, c, V1, h1, h2, h3, h4⟩
    · exact Or.inl h
    · exact Or.inr ⟨t, c, V1, h1, wd_up E n _ _ _ h2, h3, h4⟩
theorem wd_le {E : gdE} {n m : Nat} {b : Bool} {cs : List (Nat × Nat × Nat)} {V : gdT → gdT} (hm : n ≤ m) (h : wd E n b cs V) : wd E m b cs V := by
  induction hm with
  | refl => exact h
  | step _ ih => exact wd_up E _ _ _ _ ih
def wWk : List (List Nat) := [[110, 111, 116, 99, 104], [102, 101, 101, 100], [111, 105, 108], [112, 108, 97, 110, 101], [108, 101, 97, 118, 101], [98, 97, 99, 107], [109, 111, 110, 116, 104], [97, 103, 97, 105, 110]]
def y0 : gdY := ([], fun s => s)
def yAdd (a b : gdY) : gdY := (a.1 ++ b.1, fun s => gu b.2 (a.2 s))
/-- steps up to a sign that ends them -/
def wLp (X : gdX) (en : Nat) (one : Nat → gdQ gdY) : Nat → Nat → gdY → gdQ gdY
  | 0, p, a => .inr (sk X p, a)
  | f + 1, p, a => if ch X (sk X p) = en then .inr (sk X p, a) else qb (one p) fun p' b => wLp X en one f p' (yAdd a b)
def yOne (E : gdE) (k a b : Nat) : gdY := ([(k, a, b)], pOne E k a b)
def yAg (t : Nat) (b : gdY) : gdY := ((7, t, b.1.length) :: b.1, pAg t b.2)
/-- what stands behind a step's word; S: an again's -/
def wCl (X : gdX) (E : gdE) (S : Nat → gdQ gdY) (k p : Nat) : gdQ gdY :=
  if k = 0 ∨ k = 4 ∨ k = 5 then qb (tN X 0 (eN E) p) fun p1 v => .inr (p1, yOne E k v 0)
  else if k = 1 then qb (tN X 0 (eN E) p) fun p1 v => qb (tN X 0 10 p1) fun p2 w => .inr (p2, yOne E 1 v w)
  else if k = 2 then qb (tN X 0 10 p) fun p1 v => .inr (p1, yOne E 2 v 0)
  else if k = 3 then qb (tN X 0 (eB E) p) fun p1 v => qb (tN X 1 10 p1) fun p2 w => .inr (p2, yOne E 3 v w)
  else if k = 6 then .inr (p, yOne E 6 0 0)
  else S p
/-- an again's: how often, its steps -/
def wAg (X : gdX) (one : Nat → gdQ gdY) (p : Nat) : gdQ gdY := qb (tN X 0 31 p) fun p1 t => qb (tS X 91 p1) fun p2 _ => qb (wLp X 93 one (xn X + 1) p2 y0) fun p3 b => .inr (p3 + 1, yAg t b)
def wUb (X : gdX) (E : gdE) (big : Bool) (S : Nat → gdQ gdY) (p : Nat) : gdQ gdY :=
  if wix (ltr X (sk X p)) wWk = 8 then .inl (1, sk X p)
  else if wix (ltr X (sk X p)) wWk = 7 ∧ big = false then .inl (3, sk X p)
  else qb (wCl X E S (wix (ltr X (sk X p)) wWk) (sk X p + (ltr X (sk X p)).length)) fun p1 b => qb (tS X 59 p1) fun p2 _ => .inr (p2, b)
def wUn (X : gdX) (E : gdE) : Nat → Nat → gdQ gdY
  | 0, p => wUb X E false (fun _ => .inl (0, 0)) p
  | m + 1, p => wUb X E true (fun q => wAg X (fun r => wUn X E m r) q) p
theorem wUn_0 (X : gdX) (E : gdE) : wUn X E 0 = wUb X E false (fun _ => .inl (0, 0)) := rfl
theorem wUn_s (X : gdX) (E : gdE) (m : Nat) : wUn X E (m + 1) = wUb X E true (wAg X (wUn X E m)) := rfl
def wWork (X : gdX) (E : gdE) : gdQ gdY := wLp X 256 (wUn X E 6) (xn X + 1) 0 y0
/-- what was read: a step takes four bytes at least -/
def YG (E : gdE) (p p' : Nat) (a : gdY) : Prop := wd E (p' - p) true a.1 a.2 ∧ 4 * a.1.length ≤ p' - p
def ZG (E : gdE) (p p' : Nat) (a : gdY) : Prop := wd E (p' - p + 1) false a.1 a.2 ∧ 4 * a.1.length ≤ p' - p
theorem wLp_g {X : gdX} {E : gdE} {en : Nat} {one : Nat → gdQ gdY} (h1 : ∀ p, p ≤ xn X → QG X p (YG E p) (one p)) {p0 : Nat} : ∀ (f p : Nat) (a : gdY), xn X < f + p → p0 ≤ p → p ≤ xn X → ZG E p0 p a → QE X p0 (fun p' a => ZG E p0 p' a ∧ ch X p' = en) (wLp X en one f p a)
  | 0, p, a, h0, h2, h3, h4 => absurd h0 (by omega)
  | f + 1, p, a, h0, h2, h3, h4 => by
    have g1 := sk_ge X p
    have g2 := sk_le h3
    rw [wLp]
    split
    next c => exact ⟨by omega, g2, ⟨wd_le (by omega) h4.1, by have := h4.2; omega⟩, c⟩
    next c =>
      refine QG_e (h1 p h3) h2 fun p' b a1 a2 a3 => ?_
      refine wLp_g h1 f p' _ (by omega) (by omega) a2 ⟨?_, ?_⟩
      · rw [wd]
        have := h4.1
        exact Or.inr ⟨a.1, a.2, b.1, b.2, wd_le (by omega) h4.1, wd_le (by omega) a3.1, rfl, rfl⟩
      · unfold yAdd
        rw [List.length_append]
        have := h4.2
        have := a3.2
        omega
theorem wWk_len {w : List Nat} (h : wix w wWk ≠ 8) : 3 ≤ w.length := by
  unfold wWk at h
  simp only [wix] at h
  repeat (split at h; (rename_i e; rw [e]; decide))
  exact absurd rfl h
theorem wUb_g {X : gdX} {E : gdE} {big : Bool} {S : Nat → gdQ gdY} (hS : big = true → ∀ p, p ≤ xn X → QG X p (fun p' b => wd E (p' - p + 1) true b.1 b.2 ∧ 4 * b.1.length ≤ p' - p + 4) (S p)) {p : Nat} (hp : p ≤ xn X) : QG X p (YG E p) (wUb X E big S p) := by
  have g1 := sk_ge X p
  have g2 := sk_le hp
  have g3 := ltr_len X (sk X p)
  have g4 := we_le g2
  unfold wUb
  split
  next h => exact ⟨by omega, g2⟩
  next h =>
    have g5 := wWk_len h
    have g6 := wix_le (ltr X (sk X p)) wWk
    have g7 : wWk.length = 8 := rfl
    split
    next h2 => exact ⟨by omega, g2⟩
    next h2 =>
      have C : QE X (sk X p + (ltr X (sk X p)).length) (fun p' b => wd E (p' - (sk X p + (ltr X (sk X p)).length) + 1) true b.1 b.2 ∧ 4 * b.1.length ≤ p' - (sk X p + (ltr X (sk X p)).length) + 4) (wCl X E S (wix (ltr X (sk X p)) wWk) (sk X p + (ltr X (sk X p)).length)) := by
        have P : ∀ {k a b m : Nat}, POK E k a b → wd E (m + 1) true (yOne E k a b).1 (yOne E k a b).2 := fun h => by rw [wd]; exact Or.inl ⟨_, _, _, h, rfl, rfl⟩
        have hq : sk X p + (ltr X (sk X p)).length ≤ xn X := by omega
        generalize sk X p + (ltr X (sk X p)).length = q at hq
        generalize wix (ltr X (sk X p)) wWk = k at h h2 g6
        unfold wCl
        split
        next c =>
          refine QG_e (tN_g hq) (Nat.le_refl _) fun p1 v a1 a2 a3 => by exact ⟨by omega, a2, P (by unfold POK; omega), by show 4 * 1 ≤ _; omega⟩
        next c =>
          split
          next c1 =>
            refine QG_e (tN_g hq) (Nat.le_refl _) fun p1 v a1 a2 a3 => ?_
            refine QG_e (tN_g a2) (by omega) fun p2 w b1 b2 b3 => by exact ⟨by omega, b2, P (by unfold POK; omega), by show 4 * 1 ≤ _; omega⟩
          next c1 =>
            split
            next c2 => refine QG_e (tN_g hq) (Nat.le_refl _) fun p1 v a1 a2 a3 => by exact ⟨by omega, a2, P (by unfold POK; omega), by show 4 * 1 ≤ _; omega⟩
            next c2 =>
              split
              next c3 =>
                refine QG_e (tN_g hq) (Nat.le_refl _) fun p1 v a1 a2 a3 => ?_
                refine QG_e (tN_g a2) (by omega) fun p2 w b1 b2 b3 => by exact ⟨by omega, b2, P (by unfold POK; omega), by show 4 * 1 ≤ _; omega⟩
              next c3 =>
                split
                next c4 => exact ⟨Nat.le_refl _, hq, P (by unfold POK; omega), by show 4 * 1 ≤ _; omega⟩
                next c4 =>
                  have hb : big = true := by
                    cases big with
                    | true => rfl
                    | false => exact absurd (show k = 7 ∧ false = false from ⟨by omega, rfl⟩) h2
                  have := hS hb q hq
                  revert this
                  rcases S q with ⟨k, pl⟩ | ⟨p', a⟩
                  · exact fun z => z
                  · exact fun z => ⟨by have := z.1; omega, z.2.1, z.2.2⟩
      refine QE_b C (p := p) (by omega) fun p1 b a1 a2 a3 => ?_
      refine QG.qb (tS_g (by decide) a2) (by omega) fun p2 _ b1 b2 _ => ?_
      exact ⟨by omega, b2, wd_le (by omega) a3.1, by have := a3.2; show 4 * b.1.length ≤ _; omega⟩
theorem wUn_g {X : gdX} {E : gdE} : ∀ (m : Nat) {p : Nat}, p ≤ xn X → QG X p (YG E p) (wUn X E m p)
  | 0, p, hp => by rw [wUn_0]; exact wUb_g (fun e => by cases e) hp
  | m + 1, p, hp => by
    rw [wUn_s]
    refine wUb_g (fun _ p hp => ?_) hp
    refine QG.qb (tN_g hp) (Nat.le_refl p) fun p1 t a1 a2 a3 => ?_
    refine QG.qb (tS_g (by decide) a2) (by omega) fun p2 _ b1 b2 _ => ?_
    have L := wLp_g (X := X) (en := 93) (fun p hp => wUn_g (E := E) m hp) (xn X + 1) p2 y0 (by omega) (Nat.le_refl _) b2 ⟨by rw [wd]; exact Or.inl ⟨rfl, rfl⟩, by show 4 * 0 ≤ _; omega⟩
    refine QE_b L (by omega) fun p3 b c1 c2 c3 => ?_
    have := ch_lt (X := X) (q := p3) (by omega)
    refine ⟨by omega, by omega, ?_, ?_⟩
    · rw [wd]
      exact Or.inr ⟨t, b.1, b.2, by omega, wd_le (by omega) c3.1.1, rfl, rfl⟩
    · show 4 * (b.1.length + 1) ≤ _
      have := c3.1.2
      omega
theorem wWork_g (X : gdX) (E : gdE) : QE X 0 (fun p' a => ZG E 0 p' a ∧ ch X p' = 256) (wWork X E) :=
  wLp_g (fun p hp => wUn_g 6 hp) _ _ _ (by omega) (Nat.le_refl _) (Nat.zero_le _) ⟨by rw [wd]; exact Or.inl ⟨rfl, rfl⟩, by show 4 * 0 ≤ _; omega⟩

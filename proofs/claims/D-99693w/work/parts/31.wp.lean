/-! ===== LAWS OF INTS, LOOPS, ENDS ===== -/
set_option maxRecDepth 100000
/-! ints out of naturals -/
theorem j_lt {m n : Nat} (hm : m < 2147483648) (hn : n < 2147483648) : (Int32.ofNat m < Int32.ofNat n) = (m < n) := propext (Int32.ofNat_lt_iff_lt hm hn)
theorem j_le {m n : Nat} (hm : m < 2147483648) (hn : n < 2147483648) : (Int32.ofNat m ≤ Int32.ofNat n) = (m ≤ n) := propext (Int32.ofNat_le_iff_le hm hn)
theorem j_eq {m n : Nat} (hm : m < 2147483648) (hn : n < 2147483648) : (Int32.ofNat m = Int32.ofNat n) = (m = n) := propext ⟨fun h => by
  have := congrArg Int32.toNatClampNeg h
  rwa [Int32.toNatClampNeg_ofNat_of_lt hm, Int32.toNatClampNeg_ofNat_of_lt hn] at this, fun h => by rw [h]⟩
theorem j_cl {n : Nat} (h : n < 2147483648) : (Int32.ofNat n).toNatClampNeg = n := Int32.toNatClampNeg_ofNat_of_lt h
theorem j_ti {n : Nat} (h : n < 2147483648) : (Int32.ofNat n).toInt = (n : Int) := Int32.toInt_ofNat_of_lt h
theorem j_add (m n : Nat) : Int32.ofNat m + Int32.ofNat n = Int32.ofNat (m + n) := (Int32.ofNat_add m n).symm
theorem j_mul (m n : Nat) : Int32.ofNat m * Int32.ofNat n = Int32.ofNat (m * n) := (Int32.ofNat_mul m n).symm
theorem j_sub {m n : Nat} (h : n ≤ m) : Int32.ofNat m - Int32.ofNat n = Int32.ofNat (m - n) := (Int32.ofNat_sub m n h).symm
theorem j_div {m n : Nat} (hm : m < 2147483648) (hn : n < 2147483648) : Int32.ofNat m / Int32.ofNat n = Int32.ofNat (m / n) := (Int32.ofNat_div hm hn).symm
theorem j_lit (n : Nat) : (no_index (OfNat.ofNat n) : Int32) = Int32.ofNat n := rfl
theorem j_s (n : Nat) : Int32.ofNat n + 1 = Int32.ofNat (n + 1) := (Int32.ofNat_add n 1).symm
theorem j_addL (m n : Nat) : (no_index (OfNat.ofNat m) : Int32) + Int32.ofNat n = Int32.ofNat (OfNat.ofNat m + n) := j_add m n
theorem j_addR (m n : Nat) : Int32.ofNat m + (no_index (OfNat.ofNat n) : Int32) = Int32.ofNat (m + OfNat.ofNat n) := j_add m n
theorem j_mulL (m n : Nat) : (no_index (OfNat.ofNat m) : Int32) * Int32.ofNat n = Int32.ofNat (OfNat.ofNat m * n) := j_mul m n
theorem j_mulR (m n : Nat) : Int32.ofNat m * (no_index (OfNat.ofNat n) : Int32) = Int32.ofNat (m * OfNat.ofNat n) := j_mul m n
theorem j_divR {m n : Nat} (hm : m < 2147483648) (hn : (OfNat.ofNat n : Nat) < 2147483648) : Int32.ofNat m / (no_index (OfNat.ofNat n) : Int32) = Int32.ofNat (m / OfNat.ofNat n) := j_div hm hn
theorem j_subR {m n : Nat} (h : OfNat.ofNat n ≤ m) : Int32.ofNat m - (no_index (OfNat.ofNat n) : Int32) = Int32.ofNat (m - OfNat.ofNat n) := j_sub h
theorem j_subL {m n : Nat} (h : n ≤ OfNat.ofNat m) : (no_index (OfNat.ofNat m) : Int32) - Int32.ofNat n = Int32.ofNat (OfNat.ofNat m - n) := j_sub h
theorem j_ltL {m n : Nat} (hm : (OfNat.ofNat m : Nat) < 2147483648) (hn : n < 2147483648) : ((no_index (OfNat.ofNat m) : Int32) < Int32.ofNat n) = (OfNat.ofNat m < n) := j_lt hm hn
theorem j_ltR {m n : Nat} (hm : m < 2147483648) (hn : (OfNat.ofNat n : Nat) < 2147483648) : (Int32.ofNat m < (no_index (OfNat.ofNat n) : Int32)) = (m < OfNat.ofNat n) := j_lt hm hn
theorem j_leL {m n : Nat} (hm : (OfNat.ofNat m : Nat) < 2147483648) (hn : n < 2147483648) : ((no_index (OfNat.ofNat m) : Int32) ≤ Int32.ofNat n) = (OfNat.ofNat m ≤ n) := j_le hm hn
theorem j_leR {m n : Nat} (hm : m < 2147483648) (hn : (OfNat.ofNat n : Nat) < 2147483648) : (Int32.ofNat m ≤ (no_index (OfNat.ofNat n) : Int32)) = (m ≤ OfNat.ofNat n) := j_le hm hn
theorem j_eqL {m n : Nat} (hm : (OfNat.ofNat m : Nat) < 2147483648) (hn : n < 2147483648) : ((no_index (OfNat.ofNat m) : Int32) = Int32.ofNat n) = (OfNat.ofNat m = n) := j_eq hm hn
theorem j_eqR {m n : Nat} (hm : m < 2147483648) (hn : (OfNat.ofNat n : Nat) < 2147483648) : (Int32.ofNat m = (no_index (OfNat.ofNat n) : Int32)) = (m = OfNat.ofNat n) := j_eq hm hn
theorem j_m1 {n : Nat} (h : n < 2147483648) : (Int32.ofNat n = -1) = False := eq_false fun e => by
  have := congrArg Int32.toInt e
  rw [j_ti h] at this
  have h2 : (-1 : Int32).toInt = -1 := rfl
  rw [h2] at this
  omega
theorem j_m1' {n : Nat} (h : n < 2147483648) : ((-1 : Int32) = Int32.ofNat n) = False := (propext ⟨Eq.symm, Eq.symm⟩ : ((-1 : Int32) = Int32.ofNat n) = (Int32.ofNat n = -1)).trans (j_m1 h)
theorem j_eqLL {m n : Nat} (hm : (OfNat.ofNat m : Nat) < 2147483648) (hn : (OfNat.ofNat n : Nat) < 2147483648) : ((no_index (OfNat.ofNat m) : Int32) = (no_index (OfNat.ofNat n) : Int32)) = ((OfNat.ofNat m : Nat) = OfNat.ofNat n) := j_eq hm hn
theorem j_ltLL {m n : Nat} (hm : (OfNat.ofNat m : Nat) < 2147483648) (hn : (OfNat.ofNat n : Nat) < 2147483648) : ((no_index (OfNat.ofNat m) : Int32) < (no_index (OfNat.ofNat n) : Int32)) = ((OfNat.ofNat m : Nat) < OfNat.ofNat n) := j_lt hm hn
theorem j_leLL {m n : Nat} (hm : (OfNat.ofNat m : Nat) < 2147483648) (hn : (OfNat.ofNat n : Nat) < 2147483648) : ((no_index (OfNat.ofNat m) : Int32) ≤ (no_index (OfNat.ofNat n) : Int32)) = ((OfNat.ofNat m : Nat) ≤ OfNat.ofNat n) := j_le hm hn
theorem j_m1L {n : Nat} (h : (OfNat.ofNat n : Nat) < 2147483648) : ((-1 : Int32) = (no_index (OfNat.ofNat n) : Int32)) = False := j_m1' h
theorem j_m1R {n : Nat} (h : (OfNat.ofNat n : Nat) < 2147483648) : ((no_index (OfNat.ofNat n) : Int32) = -1) = False := j_m1 h
theorem j_neg {n : Nat} (h : n < 2147483648) : (Int32.ofNat n < 0) = False := by
  rw [show (0 : Int32) = Int32.ofNat 0 from rfl, j_lt h (by omega)]
  exact eq_false (Nat.not_lt_zero n)
theorem j_nn {n : Nat} (h : n < 2147483648) : (0 ≤ Int32.ofNat n) = True := by
  rw [show (0 : Int32) = Int32.ofNat 0 from rfl, j_le (by omega) h]
  exact eq_true (Nat.zero_le n)
theorem j_dec (n : Nat) : Int32.ofNat (n + 1) + (-1) = Int32.ofNat n := by rw [← j_s, Int32.add_assoc]; exact Int32.add_zero _
/-- a place in an array -/
theorem j_ix {i n : Nat} (h : i < 2147483648) (hn : i < n) : (¬ (Int32.ofNat i < 0 ∨ n ≤ (Int32.ofNat i).toNatClampNeg)) = True := by
  rw [j_neg h, j_cl h]
  exact eq_true (by rintro (h | h); exact h; omega)
/-- a place in an array, as a literal -/
theorem j_ixL {i n : Nat} (h : i < 2147483648) (hn : i < n) : (¬ ((no_index (OfNat.ofNat i) : Int32) < 0 ∨ n ≤ Int32.toNatClampNeg (no_index (OfNat.ofNat i)))) = True := j_ix h hn
theorem j_clL {n : Nat} (h : (OfNat.ofNat n : Nat) < 2147483648) : Int32.toNatClampNeg (no_index (OfNat.ofNat n)) = OfNat.ofNat n := j_cl h
theorem n_le1 {a b : Nat} (h : a ≤ b) : (a ≤ b) = True := eq_true h
theorem n_le0 {a b : Nat} (h : b < a) : (a ≤ b) = False := eq_false (Nat.not_le.mpr h)
theorem n_lt1 {a b : Nat} (h : a < b) : (a < b) = True := eq_true h
theorem n_lt0 {a b : Nat} (h : b ≤ a) : (a < b) = False := eq_false (Nat.not_lt.mpr h)
theorem n_eq0 {a b : Nat} (h : a < b ∨ b < a) : (a = b) = False := eq_false (by omega)
theorem j_or (x : Int32) (n : Nat) (h : 0 ≤ x) (hn : x.toNatClampNeg = n) : x = Int32.ofNat n := by rw [← hn]; exact (Int32.ofNat_toNatClampNeg x h).symm
/-- an int between bounds -/
theorem j_ex {x : Int32} {n : Nat} (hn : n < 2147483648) (h0 : 0 ≤ x) (h1 : x ≤ Int32.ofNat n) : ∃ k, k ≤ n ∧ x = Int32.ofNat k := by
  have e := (Int32.ofNat_toNatClampNeg x h0).symm
  refine ⟨x.toNatClampNeg, ?_, e⟩
  rw [e, j_le (Int32.toNatClampNeg_lt x) hn] at h1
  exact h1
theorem j_exlt {x : Int32} {n : Nat} (hn : n < 2147483648) (h0 : 0 ≤ x) (h1 : x < Int32.ofNat n) : ∃ k, k < n ∧ x = Int32.ofNat k := by
  have e := (Int32.ofNat_toNatClampNeg x h0).symm
  refine ⟨x.toNatClampNeg, ?_, e⟩
  rw [e, j_lt (Int32.toNatClampNeg_lt x) hn] at h1
  exact h1
/-! folds -/
def fo {α : Type} (f : Nat → α → α) : Nat → α → α
  | 0, a => a
  | n + 1, a => f n (fo f n a)
theorem fo_0 {α : Type} (f : Nat → α → α) (a : α) : fo f 0 a = a := rfl
theorem fo_s {α : Type} (f : Nat → α → α) (n : Nat) (a : α) : fo f (n + 1) a = f n (fo f n a) := rfl
theorem fo_congr {α : Type} {f g : Nat → α → α} {n : Nat} (h : ∀ i, i < n → ∀ x, f i x = g i x) (a : α) : fo f n a = fo g n a := by
  induction n with
  | zero => rfl
  | succ n ih => rw [fo_s, fo_s, ih (fun i hi => h i (Nat.lt_succ_of_lt hi)), h n (Nat.lt_succ_self n)]
theorem fo_ind {α : Type} {f : Nat → α → α} (p : Nat → α → Prop) {n : Nat} {a : α} (h0 : p 0 a) (hs : ∀ i x, i < n → p i x → p (i + 1) (f i x)) : p n (fo f n a) := by
  induction n with
  | zero => exact h0
  | succ n ih => exact hs n _ (Nat.lt_succ_self n) (ih (fun i x hi => hs i x (Nat.lt_succ_of_lt hi)))
/-! loops -/
theorem lp_f {α β : Type} (G : Nat → α → β) (f : Nat → α → α) (n : Nat) (a : α) (hs : ∀ i, i < n → ∀ x, G i x = G (i + 1) (f i x)) : G 0 a = G n (fo f n a) := by
  induction n with
  | zero => rfl
  | succ n ih => rw [ih (fun i hi => hs i (Nat.lt_succ_of_lt hi)), hs n (Nat.lt_succ_self n)]; rfl
theorem lp_p {α β : Type} (G : Nat → α → β) (f : Nat → α → α) (p : Nat → α → Prop) (n : Nat) (a : α) (h0 : p 0 a) (hs : ∀ i, i < n → ∀ x, p i x → G i x = G (i + 1) (f i x) ∧ p (i + 1) (f i x)) : G 0 a = G n (fo f n a) ∧ p n (fo f n a) := by
  induction n with
  | zero => exact ⟨rfl, h0⟩
  | succ n ih =>
    obtain ⟨e, hp⟩ := ih (fun i hi => hs i (Nat.lt_succ_of_lt hi))
    obtain ⟨e2, hp2⟩ := hs n (Nat.lt_succ_self n) _ hp
    exact ⟨e.trans e2, hp2⟩
theorem lp_e {α β : Type} (G : Nat → α → β) (p : Nat → α → Prop) (n : Nat) (a : α) (h0 : p 0 a) (hs : ∀ i, i < n → ∀ x, p i x → ∃ y, G i x = G (i + 1) y ∧ p (i + 1) y) : ∃ y, G 0 a = G n y ∧ p n y := by
  induction n with
  | zero => exact ⟨a, rfl, h0⟩
  | succ n ih =>
    obtain ⟨x, e, hp⟩ := ih (fun i hi => hs i (Nat.lt_succ_of_lt hi))
    obtain ⟨y, e2, hp2⟩ := hs n (Nat.lt_succ_self n) _ hp
    exact ⟨y, e.trans e2, hp2⟩
/-- a search: the first place where c holds, or none -/
theorem lp_x {β : Type} (G : Nat → β) (R : Nat → β) (c : Nat → Prop) (n : Nat) (hy : ∀ i, i < n → c i → G i = R i) (hn : ∀ i, i < n → ¬ c i → G i = G (i + 1)) :
    (∃ i, i < n ∧ c i ∧ (∀ j, j < i → ¬ c j) ∧ G 0 = R i) ∨ ((∀ j, j < n → ¬ c j) ∧ G 0 = G n) := by
  induction n with
  | zero => exact Or.inr ⟨fun j h => absurd h (Nat.not_lt_zero j), rfl⟩
  | succ n ih =>
    rcases ih (fun i hi => hy i (Nat.lt_succ_of_lt hi)) (fun i hi => hn i (Nat.lt_succ_of_lt hi)) with ⟨i, h1, h2, h3, h4⟩ | ⟨h1, h2⟩
    · exact Or.inl ⟨i, Nat.lt_succ_of_lt h1, h2, h3, h4⟩
    · by_cases hc : c n
      · exact Or.inl ⟨n, Nat.lt_succ_self n, hc, h1, h2.trans (hy n (Nat.lt_succ_self n) hc)⟩
      · refine Or.inr ⟨fun j hj => ?_, h2.trans (hn n (Nat.lt_succ_self n) hc)⟩
        rcases Nat.lt_succ_iff_lt_or_eq.mp hj with h | h
        · exact h1 j h
        · rw [h]; exact hc
/-- the first place from i on, of n places, where c holds; else e -/
def fi {α : Type} (c : Nat → Bool) (R : Nat → α) (e : α) : Nat → Nat → α
  | 0, _ => e
  | n + 1, i => if c i = true then R i else fi c R e n (i + 1)
theorem lp_fi {α β : Type} (G : Nat → β) (K : α → β) (c : Nat → Bool) (R : Nat → α) (e : α) : ∀ (n i : Nat), (∀ j, i ≤ j → j < i + n → G j = if c j = true then K (R j) else G (j + 1)) → G (i + n) = K e → G i = K (fi c R e n i)
  | 0, i, _, h => h
  | n + 1, i, hs, h => by
    rw [hs i (Nat.le_refl i) (by omega), fi]
    split
    · rfl
    · exact lp_fi G K c R e n (i + 1) (fun j a b => hs j (by omega) (by omega)) (by rw [show i + 1 + n = i + (n + 1) by omega]; exact h)
/-! ends: a run that ends, and how -/
def Rt (o : Option gd_O) (Q : gd_O → Prop) : Prop := ∃ r, o = some r ∧ Q r
theorem Rt.ok {r : gd_O} {Q : gd_O → Prop} (h : Q r) : Rt (some r) Q := ⟨r, rfl, h⟩
theorem Rt.of {o : Option gd_O} {r : gd_O} {Q : gd_O → Prop} (e : o = some r) (h : Q r) : Rt o Q := ⟨r, e, h⟩
theorem Rt.eq {o o' : Option gd_O} {Q : gd_O → Prop} (e : o = o') (h : Rt o' Q) : Rt o Q := e ▸ h
theorem Rt.mono {o : Option gd_O} {Q Q' : gd_O → Prop} (h : Rt o Q) (w : ∀ r, Q r → Q' r) : Rt o Q' := by
  obtain ⟨r, e, hr⟩ := h
  exact ⟨r, e, w r hr⟩
theorem Rt.gc {P : gd_P} {d k pc q : Nat} {L st : List Value} {o : Option gd_O} {Q Q1 : gd_O → Prop} (h : Rt o Q1) (w : ∀ r, Q1 r → Rt (gc P d k pc q L st (some r)) Q) : Rt (gc P d k pc q L st o) Q := by
  obtain ⟨r, rfl, hr⟩ := h
  exact w r hr
/-- by a measure -/
theorem Rt.rec {σ : Type} (G : σ → Option gd_O) (I : σ → Prop) (μ : σ → Nat) (Q : gd_O → Prop) (hs : ∀ s, I s → (∀ s', I s' → μ s' < μ s → Rt (G s') Q) → Rt (G s) Q) (s : σ) (h : I s) : Rt (G s) Q := by
  have : ∀ n s, I s → μ s < n → Rt (G s) Q := by
    intro n
    induction n with
    | zero => intro s _ h; exact absurd h (Nat.not_lt_zero _)
    | succ n ih => intro s hI hm; exact hs s hI (fun s' a b => ih s' a (by omega))
  exact this (μ s + 1) s h (Nat.lt_succ_self _)
/-! runs of more depth -/
theorem goN_C {P : gd_P} {C C' : gd_C} (hC : ∀ k as h r, C k as h = some r → C' k as h = some r) (k : Nat) : ∀ (n pc : Nat) (L st : List Value) (h : gd_H) (r : gd_O), goN P C k n pc L st h = some r → goN P C' k n pc L st h = some r := by
  intro n
  induction n with
  | zero => intro pc L st h r e; cases e
  | succ n ih =>
    intro pc L st h r e
    rw [goN] at e ⊢
    split at e
    next => cases e
    next q L' st' h' e1 => exact ih _ _ _ _ _ e
    next k' as q L' st' h' e1 =>
      split at e
      next => cases e
      next v h2 e2 => rw [hC _ _ _ _ e2]; exact ih _ _ _ _ _ e
      next a h2 e2 =>
        rw [hC _ _ _ _ e2]
        dsimp only
        split at e
        next hp e3 => exact ih _ _ _ _ _ e
        next e3 => exact e
        next e3 => cases e
    next v h' e1 => exact e
    next a h' e1 =>
      split at e
      next hp e3 => exact ih _ _ _ _ _ e
      next e3 => exact e
      next e3 => cases e
theorem run_up (P : gd_P) : ∀ (d k : Nat) (as : List Value) (h : gd_H) (r : gd_O), run P d k as h = some r → run P (d + 1) k as h = some r
  | 0, _, _, _, _, e => by cases e
  | d + 1, k, as, h, r, e => by
    rw [run] at e ⊢
    split at e
    next hl =>
      rw [if_pos hl]
      obtain ⟨n, hn⟩ := lim_ex e
      exact lim_some (fun n r => goN_mono P (run P (d + 1)) k n 0 _ [] h r) (goN_C (run_up P d) k n 0 _ [] h r hn)
    next => cases e
theorem run_le {P : gd_P} {d d' k : Nat} {as : List Value} {h : gd_H} {r : gd_O} (hd : d ≤ d') (e : run P d k as h = some r) : run P d' k as h = some r := by
  induction hd with
  | refl => exact e
  | step _ ih => exact run_up P _ k as h r ih

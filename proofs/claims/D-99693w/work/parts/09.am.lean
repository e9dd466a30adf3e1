/-! ===== THE ABSTRACT MACHINE: a heap of typed memories, code as semantic functions, runs as limits ===== -/
set_option maxRecDepth 100000
/-- ints, longs, references by (cell, place); kind of each cell; its length; the next cell; elements used -/
abbrev gd_H : Type := (Nat → Nat → Int32) × (Nat → Nat → Int64) × (Nat → Nat → Nat) × (Nat → Nat) × (Nat → Nat) × Nat × Nat
def gI (h : gd_H) : Nat → Nat → Int32 := h.1
def gJ (h : gd_H) : Nat → Nat → Int64 := h.2.1
def gR (h : gd_H) : Nat → Nat → Nat := h.2.2.1
def gT (h : gd_H) : Nat → Nat := h.2.2.2.1
def gL (h : gd_H) : Nat → Nat := h.2.2.2.2.1
def gS (h : gd_H) : Nat := h.2.2.2.2.2.1
def gU (h : gd_H) : Nat := h.2.2.2.2.2.2
def wI (h : gd_H) (f : Nat → Nat → Int32) : gd_H := (f, h.2)
def wJ (h : gd_H) (f : Nat → Nat → Int64) : gd_H := (h.1, f, h.2.2)
def wR (h : gd_H) (f : Nat → Nat → Nat) : gd_H := (h.1, h.2.1, f, h.2.2.2)
def up1 {α : Type} (f : Nat → Nat → α) (a k : Nat) (v : α) : Nat → Nat → α := fun b j => if b = a ∧ j = k then v else f b j
/-- n places of b from dp on become those of a from sp on -/
def cpy {α : Type} (f : Nat → Nat → α) (a sp b dp n : Nat) : Nat → Nat → α := fun x j => if x = b ∧ dp ≤ j ∧ j < dp + n then f a (sp + (j - dp)) else f x j
/-- a new cell of kind t, length n, s elements, all zero -/
def nw (h : gd_H) (t n s : Nat) : gd_H :=
  (fun b j => if b = gS h then 0 else gI h b j, fun b j => if b = gS h then 0 else gJ h b j, fun b j => if b = gS h then 0 else gR h b j,
   fun b => if b = gS h then t else gT h b, fun b => if b = gS h then n else gL h b, gS h + 1, gU h + s)
theorem gI_wI (h : gd_H) (f) : gI (wI h f) = f := rfl
theorem gJ_wI (h : gd_H) (f) : gJ (wI h f) = gJ h := rfl
theorem gR_wI (h : gd_H) (f) : gR (wI h f) = gR h := rfl
theorem gT_wI (h : gd_H) (f) : gT (wI h f) = gT h := rfl
theorem gL_wI (h : gd_H) (f) : gL (wI h f) = gL h := rfl
theorem gS_wI (h : gd_H) (f) : gS (wI h f) = gS h := rfl
theorem gU_wI (h : gd_H) (f) : gU (wI h f) = gU h := rfl
theorem gI_wJ (h : gd_H) (f) : gI (wJ h f) = gI h := rfl
theorem gJ_wJ (h : gd_H) (f) : gJ (wJ h f) = f := rfl
theorem gR_wJ (h : gd_H) (f) : gR (wJ h f) = gR h := rfl
theorem gT_wJ (h : gd_H) (f) : gT (wJ h f) = gT h := rfl
theorem gL_wJ (h : gd_H) (f) : gL (wJ h f) = gL h := rfl
theorem gS_wJ (h : gd_H) (f) : gS (wJ h f) = gS h := rfl
theorem gU_wJ (h : gd_H) (f) : gU (wJ h f) = gU h := rfl
theorem gI_wR (h : gd_H) (f) : gI (wR h f) = gI h := rfl
theorem gJ_wR (h : gd_H) (f) : gJ (wR h f) = gJ h := rfl
theorem gR_wR (h : gd_H) (f) : gR (wR h f) = f := rfl
theorem gT_wR (h : gd_H) (f) : gT (wR h f) = gT h := rfl
theorem gL_wR (h : gd_H) (f) : gL (wR h f) = gL h := rfl
theorem gS_wR (h : gd_H) (f) : gS (wR h f) = gS h := rfl
theorem gU_wR (h : gd_H) (f) : gU (wR h f) = gU h := rfl
theorem wI_wI (h : gd_H) (f g) : wI (wI h f) g = wI h g := rfl
theorem wI_self (h : gd_H) : wI h (gI h) = h := rfl
theorem wJ_wJ (h : gd_H) (f g) : wJ (wJ h f) g = wJ h g := rfl
theorem wJ_self (h : gd_H) : wJ h (gJ h) = h := rfl
theorem wR_wR (h : gd_H) (f g) : wR (wR h f) g = wR h g := rfl
theorem wR_self (h : gd_H) : wR h (gR h) = h := rfl
theorem gS_nw (h : gd_H) (t n s) : gS (nw h t n s) = gS h + 1 := rfl
theorem gU_nw (h : gd_H) (t n s) : gU (nw h t n s) = gU h + s := rfl
theorem gT_nw (h : gd_H) (t n s) (b : Nat) : gT (nw h t n s) b = if b = gS h then t else gT h b := rfl
theorem gL_nw (h : gd_H) (t n s) (b : Nat) : gL (nw h t n s) b = if b = gS h then n else gL h b := rfl
theorem gI_nw (h : gd_H) (t n s) (b j : Nat) : gI (nw h t n s) b j = if b = gS h then 0 else gI h b j := rfl
theorem gJ_nw (h : gd_H) (t n s) (b j : Nat) : gJ (nw h t n s) b j = if b = gS h then 0 else gJ h b j := rfl
theorem gR_nw (h : gd_H) (t n s) (b j : Nat) : gR (nw h t n s) b j = if b = gS h then 0 else gR h b j := rfl
theorem up1_at {α : Type} (f : Nat → Nat → α) (a k : Nat) (v : α) (b j : Nat) : up1 f a k v b j = if b = a ∧ j = k then v else f b j := rfl
theorem up1_eq {α : Type} (f : Nat → Nat → α) (a k : Nat) (v : α) : up1 f a k v a k = v := by simp [up1]
theorem up1_ne {α : Type} (f : Nat → Nat → α) {a b : Nat} (k : Nat) (v : α) (j : Nat) (h : b ≠ a) : up1 f a k v b j = f b j := by simp [up1, h]
/-- how an instruction goes on: at a place; through a call; at an end (a value or none, or what is thrown) -/
abbrev gd_SR : Type := (Nat × List Value × List Value × gd_H) ⊕ ((Nat × List Value × Nat × List Value × List Value × gd_H) ⊕ ((Option Value ⊕ Nat) × gd_H))
abbrev gd_O : Type := (Option Value ⊕ Nat) × gd_H
abbrev gd_I : Type := List Value → List Value → gd_H → Option gd_SR
def nx (q : Nat) (L st : List Value) (h : gd_H) : Option gd_SR := some (.inl (q, L, st, h))
def cl_ (k : Nat) (as : List Value) (q : Nat) (L st : List Value) (h : gd_H) : Option gd_SR := some (.inr (.inl (k, as, q, L, st, h)))
def dn (o : Option Value ⊕ Nat) (h : gd_H) : Option gd_SR := some (.inr (.inr (o, h)))
/-! limits -/
noncomputable def lim {α : Type} (g : Nat → Option α) : Option α :=
  @dite (Option α) (∃ n r, g n = some r) (Classical.propDecidable _) (fun H => g (Classical.choose H)) (fun _ => none)
def mono {α : Type} (g : Nat → Option α) : Prop := ∀ n r, g n = some r → g (n + 1) = some r
theorem mono.le {α : Type} {g : Nat → Option α} (h : mono g) {n m : Nat} {r : α} (hn : g n = some r) (hm : n ≤ m) : g m = some r := by
  induction hm with
  | refl => exact hn
  | step _ ih => exact h _ _ ih
theorem lim_ex {α : Type} {g : Nat → Option α} {r : α} (h : lim g = some r) : ∃ n, g n = some r := by
  unfold lim at h
  split at h
  next H => exact ⟨_, h⟩
  next H => cases h
theorem lim_some {α : Type} {g : Nat → Option α} (hg : mono g) {n : Nat} {r : α} (h : g n = some r) : lim g = some r := by
  unfold lim
  split
  next H =>
    obtain ⟨r2, h2⟩ := Classical.choose_spec H
    rw [h2]
    have a := hg.le h (Nat.le_max_left n (Classical.choose H))
    have b := hg.le h2 (Nat.le_max_right n (Classical.choose H))
    exact b.symm.trans a
  next H => exact absurd ⟨n, r, h⟩ H
theorem lim_none {α : Type} {g : Nat → Option α} (h : ∀ n, g n = none) : lim g = none := by
  cases e : lim g with
  | none => rfl
  | some r =>
    obtain ⟨n, hn⟩ := lim_ex e
    rw [h n] at hn
    cases hn
theorem lim_shift {α : Type} {g g' : Nat → Option α} (h0 : g 0 = none) (hs : ∀ n, g (n + 1) = g' n) (hg : mono g) (hg' : mono g') : lim g = lim g' := by
  cases e : lim g' with
  | none =>
    refine lim_none fun n => ?_
    cases n with
    | zero => exact h0
    | succ n =>
      rw [hs]
      cases e2 : g' n with
      | none => rfl
      | some r => rw [lim_some hg' e2] at e; cases e
  | some r =>
    obtain ⟨n, hn⟩ := lim_ex e
    exact lim_some hg (n := n + 1) ((hs n).trans hn)
theorem lim_const {α : Type} {g : Nat → Option α} {r : Option α} (h0 : g 0 = none) (hs : ∀ n, g (n + 1) = r) : lim g = r := by
  cases r with
  | none => exact lim_none fun n => by cases n with
    | zero => exact h0
    | succ n => exact hs n
  | some r =>
    refine lim_some (fun n q hq => ?_) (hs 0)
    cases n with
    | zero => rw [h0] at hq; cases hq
    | succ n => rw [hs] at hq ⊢; exact hq
/-! runs -/
/-- code; what catches, by method, place and kind (none: not known); how many locals -/
abbrev gd_P : Type := (Nat → Nat → gd_I) × (Nat → Nat → Nat → Option (Option Nat)) × (Nat → Nat)
abbrev gd_C : Type := Nat → List Value → gd_H → Option gd_O
def goN (P : gd_P) (C : gd_C) (k : Nat) : Nat → Nat → List Value → List Value → gd_H → Option gd_O
  | 0, _, _, _, _ => none
  | n + 1, pc, L, st, h => match P.1 k pc L st h with
    | none => none
    | some (.inl (q, L', st', h')) => goN P C k n q L' st' h'
    | some (.inr (.inl (k', as, q, L', st', h'))) => (match C k' as h' with
      | none => none
      | some (.inl v, h2) => goN P C k n q L' (v.toList ++ st') h2
      | some (.inr a, h2) => (match P.2.1 k pc (gT h2 a) with
        | some (some hp) => goN P C k n hp L' [.ref a] h2
        | some none => some (.inr a, h2)
        | none => none))
    | some (.inr (.inr (.inl v, h'))) => some (.inl v, h')
    | some (.inr (.inr (.inr a, h'))) => (match P.2.1 k pc (gT h' a) with
      | some (some hp) => goN P C k n hp L [.ref a] h'
      | some none => some (.inr a, h')
      | none => none)
theorem goN_mono (P : gd_P) (C : gd_C) (k : Nat) : ∀ (n pc : Nat) (L st : List Value) (h : gd_H) (r : gd_O), goN P C k n pc L st h = some r → goN P C k (n + 1) pc L st h = some r := by
  intro n
  induction n with
  | zero => intro pc L st h r e; cases e
  | succ n ih =>
    intro pc L st h r e
    rw [goN] at e ⊢
    split at e
    next => cases e
    next q L' st' h' e1 => exact ih _ _ _ _ _ e
    next k' as q L' st' h' e1 =>
      split at e
      next => cases e
      next v h2 e2 => exact ih _ _ _ _ _ e
      next a h2 e2 =>
        split at e
        next hp e3 => exact ih _ _ _ _ _ e
        next e3 => exact e
        next e3 => cases e
    next v h' e1 => exact e
    next a h' e1 =>
      split at e
      next hp e3 => exact ih _ _ _ _ _ e
      next e3 => exact e
      next e3 => cases e
/-- the locals at a method's entry -/
def sprd : List Value → List Value
  | [] => []
  | .long x :: r => .long x :: .null :: sprd r
  | .double x :: r => .double x :: .null :: sprd r
  | v :: r => v :: sprd r
def en (n : Nat) (as : List Value) : List Value := sprd as ++ List.replicate (n - (sprd as).length) .null
noncomputable def run (P : gd_P) : Nat → gd_C
  | 0, _, _, _ => none
  | d + 1, k, as, h => if (sprd as).length ≤ P.2.2 k then lim (fun n => goN P (run P d) k n 0 (en (P.2.2 k) as) [] h) else none
noncomputable def go (P : gd_P) (d k pc : Nat) (L st : List Value) (h : gd_H) : Option gd_O := lim (fun n => goN P (run P d) k n pc L st h)
theorem run_succ (P : gd_P) (d k : Nat) (as : List Value) (h : gd_H) (hl : (sprd as).length ≤ P.2.2 k) : run P (d + 1) k as h = go P d k 0 (en (P.2.2 k) as) [] h := by
  rw [run, if_pos hl]
  rfl
/-- thrown at a place -/
noncomputable def gx (P : gd_P) (d k pc : Nat) (L : List Value) (a : Nat) (h : gd_H) : Option gd_O := match P.2.1 k pc (gT h a) with
  | some (some hp) => go P d k hp L [.ref a] h
  | some none => some (.inr a, h)
  | none => none
/-- behind a call -/
noncomputable def gc (P : gd_P) (d k pc q : Nat) (L st : List Value) : Option gd_O → Option gd_O
  | none => none
  | some (.inl v, h2) => go P d k q L (v.toList ++ st) h2
  | some (.inr a, h2) => gx P d k pc L a h2
noncomputable def gs (P : gd_P) (d k pc : Nat) (L : List Value) : Option gd_SR → Option gd_O
  | none => none
  | some (.inl (q, L', st', h')) => go P d k q L' st' h'
  | some (.inr (.inl (k', as, q, L', st', h'))) => gc P d k pc q L' st' (run P d k' as h')
  | some (.inr (.inr (.inl v, h'))) => some (.inl v, h')
  | some (.inr (.inr (.inr a, h'))) => gx P d k pc L a h'
theorem go_eq (P : gd_P) (d k pc : Nat) (L st : List Value) (h : gd_H) : go P d k pc L st h = gs P d k pc L (P.1 k pc L st h) := by
  have m : ∀ (pc : Nat) (L st : List Value) (h : gd_H), mono (fun n => goN P (run P d) k n pc L st h) := fun pc L st h n r => goN_mono P (run P d) k n pc L st h r
  have mx : ∀ (L : List Value) (a : Nat) (h' : gd_H), mono (fun n => match P.2.1 k pc (gT h' a) with
      | some (some hp) => goN P (run P d) k n hp L [.ref a] h'
      | some none => some (.inr a, h')
      | none => none) := by
    intro L a h' n r e
    revert e
    dsimp only
    cases P.2.1 k pc (gT h' a) with
    | none => exact fun e => e
    | some hp => cases hp with
      | none => exact fun e => e
      | some hp => exact fun e => m _ _ _ _ n r e
  have sx : ∀ (L : List Value) (a : Nat) (h' : gd_H), lim (fun n => match P.2.1 k pc (gT h' a) with
      | some (some hp) => goN P (run P d) k n hp L [.ref a] h'
      | some none => some (.inr a, h')
      | none => none) = gx P d k pc L a h' := by
    intro L a h'
    unfold gx
    cases e : P.2.1 k pc (gT h' a) with
    | none => exact lim_none fun _ => rfl
    | some hp => cases hp with
      | some hp => rfl
      | none => exact lim_some (g := fun _ => (some (Sum.inr a, h') : Option gd_O)) (n := 0) (fun _ _ e => e) rfl
  cases e : P.1 k pc L st h with
  | none =>
    refine lim_const rfl fun n => ?_
    show goN P (run P d) k (n + 1) pc L st h = none
    rw [goN, e]
  | some r =>
    rcases r with ⟨q, L', st', h'⟩ | ⟨k', as, q, L', st', h'⟩ | ⟨v | a, h'⟩
    · refine lim_shift rfl (fun n => ?_) (m _ _ _ _) (m _ _ _ _)
      show goN P (run P d) k (n + 1) pc L st h = _
      rw [goN, e]
    · show _ = gc P d k pc q L' st' (run P d k' as h')
      cases e2 : run P d k' as h' with
      | none =>
        refine lim_const rfl fun n => ?_
        show goN P (run P d) k (n + 1) pc L st h = none
        rw [goN, e]
        dsimp only
        rw [e2]
      | some r2 =>
        obtain ⟨v | a, h2⟩ := r2
        · refine lim_shift rfl (fun n => ?_) (m _ _ _ _) (m _ _ _ _)
          show goN P (run P d) k (n + 1) pc L st h = _
          rw [goN, e]
          dsimp only
          rw [e2]
        · refine (lim_shift rfl (fun n => ?_) (m _ _ _ _) (mx L' a h2)).trans (sx L' a h2)
          show goN P (run P d) k (n + 1) pc L st h = _
          rw [goN, e]
          dsimp only
          rw [e2]
    · refine lim_const rfl fun n => ?_
      show goN P (run P d) k (n + 1) pc L st h = _
      rw [goN, e]
      rfl
    · refine (lim_shift rfl (fun n => ?_) (m _ _ _ _) (mx L a h')).trans (sx L a h')
      show goN P (run P d) k (n + 1) pc L st h = _
      rw [goN, e]
theorem gs_nx (P : gd_P) (d k pc : Nat) (L : List Value) (q : Nat) (L' st' : List Value) (h' : gd_H) : gs P d k pc L (nx q L' st' h') = go P d k q L' st' h' := rfl
theorem gs_no (P : gd_P) (d k pc : Nat) (L : List Value) : gs P d k pc L none = none := rfl
theorem gs_cl (P : gd_P) (d k pc : Nat) (L : List Value) (k' : Nat) (as : List Value) (q : Nat) (L' st' : List Value) (h' : gd_H) : gs P d k pc L (cl_ k' as q L' st' h') = gc P d k pc q L' st' (run P d k' as h') := rfl
theorem gs_rt (P : gd_P) (d k pc : Nat) (L : List Value) (v : Option Value) (h' : gd_H) : gs P d k pc L (dn (.inl v) h') = some (.inl v, h') := rfl
theorem gs_th (P : gd_P) (d k pc : Nat) (L : List Value) (a : Nat) (h' : gd_H) : gs P d k pc L (dn (.inr a) h') = gx P d k pc L a h' := rfl
theorem gs_if (P : gd_P) (d k pc : Nat) (L : List Value) (c : Prop) (ic : Decidable c) (x y : Option gd_SR) : gs P d k pc L (if c then x else y) = if c then gs P d k pc L x else gs P d k pc L y := by
  cases ic with
  | isTrue h => rfl
  | isFalse h => rfl
theorem go_if (P : gd_P) (d k : Nat) (c : Prop) (ic : Decidable c) (x y : Nat) (L st : List Value) (h : gd_H) : go P d k (if c then x else y) L st h = if c then go P d k x L st h else go P d k y L st h := by
  cases ic with
  | isTrue h => rfl
  | isFalse h => rfl
theorem gc_v (P : gd_P) (d k pc q : Nat) (L st : List Value) (v : Value) (h : gd_H) : gc P d k pc q L st (some (.inl (some v), h)) = go P d k q L (v :: st) h := rfl
theorem gc_n (P : gd_P) (d k pc q : Nat) (L st : List Value) (h : gd_H) : gc P d k pc q L st (some (.inl none, h)) = go P d k q L st h := rfl
theorem gc_x (P : gd_P) (d k pc q : Nat) (L st : List Value) (a : Nat) (h : gd_H) : gc P d k pc q L st (some (.inr a, h)) = gx P d k pc L a h := rfl
theorem gc_no (P : gd_P) (d k pc q : Nat) (L st : List Value) : gc P d k pc q L st none = none := rfl
theorem gx_o (P : gd_P) (d k pc : Nat) (L : List Value) (a : Nat) (h : gd_H) (e : P.2.1 k pc (gT h a) = some none) : gx P d k pc L a h = some (.inr a, h) := by simp only [gx, e]
theorem gx_c (P : gd_P) (d k pc : Nat) (L : List Value) (a hp : Nat) (h : gd_H) (e : P.2.1 k pc (gT h a) = some (some hp)) : gx P d k pc L a h = go P d k hp L [.ref a] h := by simp only [gx, e]

/-! ===== INSTRUCTIONS WITHOUT HEAP: what they do, and that the machine does it ===== -/
set_option maxRecDepth 100000
def is2 : Value → Bool
  | .long _ => true
  | .double _ => true
  | _ => false
def kl (L : List Value) : Nat → List Value
  | 0 => L
  | m + 1 => match L[m]? with
    | some v => if is2 v then L.set m .null else L
    | none => L
def st1 (L : List Value) (n : Nat) (v : Value) : List Value := (kl L n).set n v
def st2 (L : List Value) (n : Nat) (v : Value) : List Value := ((kl L n).set n v).set (n + 1) .null
def msk : List Bool → List Value → List Value
  | b :: bs, v :: vs => (if b then v else .null) :: msk bs vs
  | [], vs => vs
  | _, [] => []
theorem is2_cat (v : Value) : is2 v = true ↔ v.category = 2 := by cases v <;> simp [is2, Value.category]
theorem vf_cat {G : gd_G} (Z : gd_Z G) (v : Value) : (vf G v).category = v.category := by
  cases v with
  | ref n =>
    rcases vf_isRef Z n with h | ⟨a, h⟩ <;> rw [h] <;> rfl
  | _ => rfl
theorem kl_get {L : List Value} {i j : Nat} {w : Value} (h : (kl L i)[j]? = some w) (hw : w ≠ .null) : L[j]? = some w ∧ ¬ (j + 1 = i ∧ w.category = 2) := by
  cases i with
  | zero => exact ⟨h, by omega⟩
  | succ m =>
    simp only [kl] at h
    cases e : L[m]? with
    | none =>
      rw [e] at h
      dsimp only at h
      refine ⟨h, fun q => ?_⟩
      have : j = m := by omega
      subst this
      rw [e] at h
      cases h
    | some v =>
      rw [e] at h
      dsimp only at h
      by_cases h2 : is2 v = true
      · rw [if_pos h2] at h
        by_cases hj : j = m
        · subst hj
          have hl := (List.getElem?_eq_some_iff.mp e).1
          rw [List.getElem?_set_self hl] at h
          exact absurd (Option.some.inj h).symm hw
        · rw [List.getElem?_set_ne (fun q => hj q.symm)] at h
          exact ⟨h, by omega⟩
      · rw [if_neg h2] at h
        refine ⟨h, fun q => ?_⟩
        have : j = m := by omega
        subst this
        rw [e] at h
        have hvw := Option.some.inj h
        exact h2 ((is2_cat v).mpr (by rw [hvw]; exact q.2))
theorem lvr_1 {G : gd_G} (Z : gd_Z G) {ls : Array Slot} {nL : Nat} {L : List Value} {i : Nat} {v : Value} (h : lvr G ls nL L) (hi : i < nL) (hc : v.category = 1) :
    ∃ ls', storeLocals ls i (vf G v) = some ls' ∧ lvr G ls' nL (st1 L i v) := by
  obtain ⟨a1, a2, a3⟩ := h
  have hc' : (vf G v).category = 1 := (vf_cat Z v).trans hc
  obtain ⟨ls', e, b1, b2, b3⟩ := lv_store1 (l := []) (v := vf G v) ⟨a1, a2, fun q hq => by cases hq⟩ hi hc'
  refine ⟨ls', e, b1, b2, fun j w hj hw => ?_⟩
  by_cases hji : j = i
  · subst hji
    have hl : j < (kl L j).length := by
      have := (List.getElem?_eq_some_iff.mp hj).1
      simpa [st1] using this
    rw [st1, List.getElem?_set_self hl] at hj
    cases hj
    exact b3 (j, vf G v) List.mem_cons_self
  · rw [st1, List.getElem?_set_ne (fun q => hji q.symm)] at hj
    obtain ⟨h1, h2⟩ := kl_get hj hw
    obtain ⟨ls2, e2, c1, c2, c3⟩ := lv_store1 (l := [(j, vf G w)]) (v := vf G v) ⟨a1, a2, fun q hq => by
      rw [List.mem_singleton.mp hq]
      exact a3 j w h1 hw⟩ hi hc'
    cases e.symm.trans e2
    refine c3 (j, vf G w) (List.mem_cons_of_mem _ (List.mem_filter.mpr ⟨List.mem_singleton.mpr rfl, ?_⟩))
    simp only [vf_cat Z, Bool.and_eq_true, Bool.not_eq_true', beq_eq_false_iff_ne, ne_eq, hji, not_false_eq_true, true_and, Bool.and_eq_false_iff]
    by_cases q : j + 1 = i
    · exact Or.inr (fun z => h2 ⟨q, z⟩)
    · exact Or.inl q
theorem lvr_2 {G : gd_G} (Z : gd_Z G) {ls : Array Slot} {nL : Nat} {L : List Value} {i : Nat} {v : Value} (h : lvr G ls nL L) (hi : i + 1 < nL) (hc : v.category = 2) :
    ∃ ls', storeLocals ls i (vf G v) = some ls' ∧ lvr G ls' nL (st2 L i v) := by
  obtain ⟨a1, a2, a3⟩ := h
  have hc' : (vf G v).category = 2 := (vf_cat Z v).trans hc
  obtain ⟨ls', e, b1, b2, b3⟩ := lv_store2 (l := []) (v := vf G v) ⟨a1, a2, fun q hq => by cases hq⟩ hi hc'
  refine ⟨ls', e, b1, b2, fun j w hj hw => ?_⟩
  by_cases hj1 : j = i + 1
  · subst hj1
    have hl := (List.getElem?_eq_some_iff.mp hj).1
    rw [st2, List.getElem?_set_self (by simpa [st2] using hl)] at hj
    exact absurd (Option.some.inj hj).symm hw
  · rw [st2, List.getElem?_set_ne (fun q => hj1 q.symm)] at hj
    by_cases hji : j = i
    · subst hji
      have hl : j < (kl L j).length := by
        have := (List.getElem?_eq_some_iff.mp hj).1
        simpa using this
      rw [List.getElem?_set_self hl] at hj
      cases hj
      exact b3 (j, vf G v) List.mem_cons_self
    · rw [List.getElem?_set_ne (fun q => hji q.symm)] at hj
      obtain ⟨h1, h2⟩ := kl_get hj hw
      obtain ⟨ls2, e2, c1, c2, c3⟩ := lv_store2 (l := [(j, vf G w)]) (v := vf G v) ⟨a1, a2, fun q hq => by
        rw [List.mem_singleton.mp hq]
        exact a3 j w h1 hw⟩ hi hc'
      cases e.symm.trans e2
      refine c3 (j, vf G w) (List.mem_cons_of_mem _ (List.mem_filter.mpr ⟨List.mem_singleton.mpr rfl, ?_⟩))
      simp only [vf_cat Z, Bool.and_eq_true, Bool.not_eq_true', beq_eq_false_iff_ne, ne_eq, hji, hj1, not_false_eq_true, true_and, Bool.and_eq_false_iff]
      by_cases q : j + 1 = i
      · exact Or.inr (fun z => h2 ⟨q, z⟩)
      · exact Or.inl q
theorem msk_get : ∀ {bs : List Bool} {L : List Value} {j : Nat} {w : Value}, (msk bs L)[j]? = some w → w ≠ .null → L[j]? = some w
  | [], L, j, w, h, _ => by cases L <;> exact h
  | b :: bs, [], j, w, h, _ => by simp [msk] at h
  | b :: bs, v :: vs, 0, w, h, hw => by
    simp only [msk, List.getElem?_cons_zero] at h ⊢
    cases b
    · exact absurd (Option.some.inj h).symm hw
    · exact h
  | b :: bs, v :: vs, j + 1, w, h, hw => by
    simp only [msk, List.getElem?_cons_succ] at h ⊢
    exact msk_get h hw
theorem lvr_msk {G : gd_G} {ls : Array Slot} {nL : Nat} {L : List Value} (bs : List Bool) (h : lvr G ls nL L) : lvr G ls nL (msk bs L) := ⟨h.1, h.2.1, fun i v hi hv => h.2.2 i v (msk_get hi hv) hv⟩
/-- a step without heap -/
def PS (M : gd_M) (pc : Nat) (L st : List Value) (q : Nat) (L' st' : List Value) : Prop :=
  ∀ (G : gd_G) (p : Program) (l : Launch) (e : Env) (R : Room) (s : State) (m : MethodId) (args : Array Value) (below : List Frame) (meth : Method) (c : Code) (Q : State → Prop), gd_Z G → p.tables.exec = Jvm.exec → c.code = M.2.1 → s.vm.findClass M.1.cls = some m.cls → (∀ w ∈ lw_all, w.before args s = true) → KN G s →
  ∀ (H : Heap) (locs : List Loc) (ls : Array Slot) (k n : Nat), (∀ q, q < g_b G → H[q]? = (g_H G)[q]?) → lvr G ls M.2.2.1 L → (∀ ls', lvr G ls' M.2.2.1 L' → W p l e R s m args below meth c H locs k n Q (F0 m q ls' (st'.map (vf G)))) →
    W p l e R s m args below meth c H locs k n Q (F0 m pc ls (st.map (vf G)))
theorem Sd.ps {mt : Nat → gd_M} {M : gd_M} {pc : Nat} {ins : gd_I} (h : ∀ L st h r, ins L st h = some r → ∃ q L' st', r = .inl (q, L', st', h) ∧ PS M pc L st q L' st') : Sd mt M pc ins := by
  refine ⟨fun L st hp r hr => by
    obtain ⟨q, L', st', rfl, -⟩ := h L st hp r hr
    exact ⟨Nat.le_refl _, Nat.le_refl _⟩, ?_⟩
  intro G l d C hC p e R s m args below meth c Q zf uf z0 u0 cx L st hp r hr
  obtain ⟨q, L', st', rfl, hs⟩ := h L st hp r hr
  obtain ⟨c1, c2, c3, c4, c5, c6, c7, -⟩ := cx
  exact ⟨Nat.le_refl _, Nat.le_refl _, fun _ _ k => fun H locs ls k1 n1 hR hl hls e1 e2 => hs G p l e R s m args below meth c Q c7.1 c1 c2 c5 c6 c7 H locs ls k1 n1 hR.1 hls (fun ls' hls' => k H locs ls' k1 n1 hR hl hls' e1 e2)⟩
/-- fewer locals are known from here on (not for what throws) -/
def nth : Option gd_SR → Option gd_SR
  | some (.inr (.inr (.inr _, _))) => none
  | r => r
def i_msk (bs : List Bool) (i : gd_I) : gd_I := fun L st h => nth (i (msk bs L) st h)
theorem nth_nx (q : Nat) (L st : List Value) (h : gd_H) : nth (nx q L st h) = nx q L st h := rfl
theorem nth_cl (k : Nat) (as : List Value) (q : Nat) (L st : List Value) (h : gd_H) : nth (cl_ k as q L st h) = cl_ k as q L st h := rfl
theorem nth_dn (v : Option Value) (h : gd_H) : nth (dn (.inl v) h) = dn (.inl v) h := rfl
theorem nth_no : nth none = none := rfl
theorem nth_if (c : Prop) (ic : Decidable c) (x y : Option gd_SR) : nth (if c then x else y) = if c then nth x else nth y := by
  cases ic with
  | isTrue h => rfl
  | isFalse h => rfl
theorem nth_some {o : Option gd_SR} {r : gd_SR} (h : nth o = some r) : o = some r ∧ ∀ a h', r ≠ .inr (.inr (.inr a, h')) := by
  unfold nth at h
  split at h
  next => cases h
  next hn => exact ⟨h, fun a h' e => hn a h' (by rw [h, e])⟩
theorem VW_msk {G : gd_G} {p : Program} {l : Launch} {e : Env} {R : Room} {s : State} {m : MethodId} {args : Array Value} {below : List Frame} {meth : Method} {c : Code} {Q : State → Prop} {nL z0 u0 pc : Nat} {L st : List Value} {h : gd_H} (bs : List Bool)
    (k : VW G p l e R s m args below meth c Q nL z0 u0 pc (msk bs L) st h) : VW G p l e R s m args below meth c Q nL z0 u0 pc L st h := fun H locs ls k1 n1 hR hl hls => k H locs ls k1 n1 hR hl (lvr_msk bs hls)
theorem XW_msk {G : gd_G} {p : Program} {l : Launch} {e : Env} {R : Room} {s : State} {m : MethodId} {args : Array Value} {below : List Frame} {meth : Method} {c : Code} {Q : State → Prop} {nL z0 u0 pc a : Nat} {L : List Value} {h : gd_H} (bs : List Bool)
    (k : XW G p l e R s m args below meth c Q nL z0 u0 pc (msk bs L) a h) : XW G p l e R s m args below meth c Q nL z0 u0 pc L a h := fun H locs ls k1 n1 rest hR hl hls => k H locs ls k1 n1 rest hR hl (lvr_msk bs hls)
theorem sd_msk {mt : Nat → gd_M} {M : gd_M} {pc : Nat} {i : gd_I} (bs : List Bool) (h : Sd mt M pc i) : Sd mt M pc (i_msk bs i) := by
  refine ⟨fun L st hp r hr => h.1 (msk bs L) st hp r (nth_some hr).1, ?_⟩
  intro G l d C hC p e R s m args below meth c Q zf uf z0 u0 cx L st hp r hr
  obtain ⟨hr, hn⟩ := nth_some hr
  have k := h.2 G l d C hC p e R s m args below meth c Q zf uf z0 u0 cx (msk bs L) st hp r hr
  rcases r with ⟨q, L', st', h'⟩ | ⟨k', as, q, L', st', h'⟩ | ⟨v | a, h'⟩
  · exact ⟨k.1, k.2.1, fun a b z => VW_msk bs (k.2.2 a b z)⟩
  · exact ⟨k.1, fun o h2 e2 => ⟨(k.2 o h2 e2).1, (k.2 o h2 e2).2.1, fun a b x y => VW_msk bs ((k.2 o h2 e2).2.2 a b x y)⟩⟩
  · exact ⟨k.1, fun a b z => VW_msk bs (k.2 a b z)⟩
  · exact absurd rfl (hn a h')

/-! ===== CALLS BY THE RECEIVER'S KIND, HANDLERS, AND: A RUN IS SOUND ===== -/
set_option maxRecDepth 100000
theorem sd_cF {mt : Nat → gd_M} {M : gd_M} {pc q n i : Nat} {x : MethodName} {tk : List (Nat × Nat)} (a1 : Cond.methodLink M.1.cls i x ∈ lw_all) (a5 : (parseMethodDescriptor x.desc).map (fun d => d.parameters.length) = some n) (hall : ∀ t k', (t, k') ∈ tk → ∃ w, gd_cl t = some w ∧ ((mt k').2.2.2.2 = [] ∧ Cond.code (mt k').1 (mt k').2.1 (mt k').2.2.1 (mt k').2.2.2.1 ∈ lw_all) ∧ Cond.initialized (mt k').1.cls ∈ lw_all ∧ (mt k').2.2.1 ≤ 40 ∧ Cond.selects w.1 x (mt k').1 ∈ lw_all ∧ Cond.instanceMethod (mt k').1 ∈ lw_all ∧ ∀ G s, KN G s → va_Fw w.1 x (mt k').1 s) (hxc : x.cls ≠ "java/lang/invoke/MethodHandle" ∧ x.cls ≠ "java/lang/invoke/VarHandle") {cnt : Nat} (hd : decode M.2.1 pc = .ok (.invokeinterface i cnt, 5)) (hq : pc + 5 = q) : Sd mt M pc (i_cF tk n q) := by
  subst hq
  refine ⟨sm_cF _ _ _, ?_⟩
  intro G l d C hC p e R s m args below meth c Q zf uf z0 u0 cx L st h r hr
  unfold i_cF at hr
  split at hr
  next a r9 ed =>
    split at hr
    next ha =>
      split at hr
      next k' ek =>
        cases hr
        refine ⟨rfl, fun o h2 e9 => ?_⟩
        have hX := hC _ _ _ _ _ e9
        obtain ⟨m1, m2, -⟩ := id hX
        refine ⟨m1, m2, fun w1 w2 kv kx => fun H locs ls k1 n1 hR hl hls e1 e2 => ?_⟩
        obtain ⟨hx, hb, hml, hr, hown, hts, hK, -, -, -, -, hfr, hlo, hz, hu⟩ := cx
        obtain ⟨w, hcl, a2, a3, a6, hse, hin, hfw⟩ := hall _ _ (slk_mem ek)
        obtain ⟨p1, p2⟩ := gd_pop ed
        intro T hT X
        obtain ⟨r4, cell, r1, r2, r3, kB, r5⟩ := gd_recv hK hR rfl hcl
        refine gd_after (As := Value.ref (ad G a) :: ((st.take n).reverse).map (vf G)) m1 m2 rfl hl hls e1 e2 kv kx ?_
        have hcw : gd_cw (mt k') := by unfold gd_cw; rw [if_pos a2.1]; exact a2.2
        have hK9 := gd_back (R := R) (p := p) (e := e) (below := below) (s := s) (args := args) (len := 5) hX hfr hlo a6 hcw a3 hts
        exact vx_callIF X hx (C := w.1) (x := x) hown (hts _ a1) (va_Nw.use (A := args) rfl (hfw G s hK).1) (va_Nw.use (A := args) rfl (hfw G s hK).2.1) (hts _ hse) (hts _ hin) (va_Nw.use (A := args) rfl (hfw G s hK).2.2.1) (va_Nw.use (A := args) rfl (hfw G s hK).2.2.2.1) (va_Nw.use (A := args) rfl (hfw G s hK).2.2.2.2) (hts _ a2.2) hxc hK9 (by rw [hT]; exact r1) r2 r3 r5 (g := F0 m pc ls (st.map (vf G))) rfl (by show ls.size = _; rw [hls.1, hml]) (argsL := ((st.take n).reverse).map (vf G)) (rest := r9.map (vf G)) (gd_len a5 (by simpa using p2)) (gd_stk p1 r4) (by show 2 * 0 + _ ≤ 16; have := gd_sum8 hK.1 r9 8 ha; omega) (by rw [hb]; exact hd) (fun vm₁ hW₁ => ⟨by show k1 + _ ≤ _; omega, by show n1 + _ ≤ _; omega, by show _ = _; rw [List.map_cons, vf_hi G r4], by show gd_R G h T.heap; rw [hT]; exact hR, KN.moved (U := T.setVm vm₁) hW₁ hK⟩)
      next => cases hr
    next => cases hr
  next => cases hr
theorem sd_cU {mt : Nat → gd_M} {M : gd_M} {pc q n i : Nat} {x : MethodName} {tk : List (Nat × Nat)} (a1 : Cond.methodLink M.1.cls i x ∈ lw_all) (a5 : (parseMethodDescriptor x.desc).map (fun d => d.parameters.length) = some n) (hall : ∀ t k', (t, k') ∈ tk → ∃ w, gd_cl t = some w ∧ ((mt k').2.2.2.2 = [] ∧ Cond.code (mt k').1 (mt k').2.1 (mt k').2.2.1 (mt k').2.2.2.1 ∈ lw_all) ∧ Cond.initialized (mt k').1.cls ∈ lw_all ∧ (mt k').2.2.1 ≤ 40 ∧ Cond.selects w.1 x (mt k').1 ∈ lw_all ∧ Cond.instanceMethod (mt k').1 ∈ lw_all ∧ True) {owner : String} (hsm : Cond.sameMethod x.cls owner x.name x.desc ∈ lw_all) (hdc : Cond.declares ⟨owner, x.name, x.desc⟩ ∈ lw_tbl) (hoc : owner ≠ "java/lang/invoke/MethodHandle" ∧ owner ≠ "java/lang/invoke/VarHandle") (hd : decode M.2.1 pc = .ok (.invokevirtual i, 3)) (hq : pc + 3 = q) : Sd mt M pc (i_cF tk n q) := by
  subst hq
  refine ⟨sm_cF _ _ _, ?_⟩
  intro G l d C hC p e R s m args below meth c Q zf uf z0 u0 cx L st h r hr
  unfold i_cF at hr
  split at hr
  next a r9 ed =>
    split at hr
    next ha =>
      split at hr
      next k' ek =>
        cases hr
        refine ⟨rfl, fun o h2 e9 => ?_⟩
        have hX := hC _ _ _ _ _ e9
        obtain ⟨m1, m2, -⟩ := id hX
        refine ⟨m1, m2, fun w1 w2 kv kx => fun H locs ls k1 n1 hR hl hls e1 e2 => ?_⟩
        obtain ⟨hx, hb, hml, hr, hown, hts, hK, -, -, -, -, hfr, hlo, hz, hu⟩ := cx
        obtain ⟨w, hcl, a2, a3, a6, hse, hin, hfw⟩ := hall _ _ (slk_mem ek)
        obtain ⟨p1, p2⟩ := gd_pop ed
        intro T hT X
        obtain ⟨r4, cell, r1, r2, r3, kB, r5⟩ := gd_recv hK hR rfl hcl
        refine gd_after (As := Value.ref (ad G a) :: ((st.take n).reverse).map (vf G)) m1 m2 rfl hl hls e1 e2 kv kx ?_
        have hcw : gd_cw (mt k') := by unfold gd_cw; rw [if_pos a2.1]; exact a2.2
        have hK9 := gd_back (R := R) (p := p) (e := e) (below := below) (s := s) (args := args) (len := 3) hX hfr hlo a6 hcw a3 hts
        exact vx_callVU X hx (C := w.1) (x := x) hown (hts _ a1) (hts _ hsm) (va_Decl.abs (hK.2.2.2.2.2.2.2.2.2.2.1 _ hdc rfl)) hoc (hts _ hse) (hts _ hin) (hts _ a2.2) hK9 (by rw [hT]; exact r1) r2 r3 (g := F0 m pc ls (st.map (vf G))) rfl (by show ls.size = _; rw [hls.1, hml]) (argsL := ((st.take n).reverse).map (vf G)) (rest := r9.map (vf G)) (gd_len a5 (by simpa using p2)) (gd_stk p1 r4) (by show 2 * 0 + _ ≤ 16; have := gd_sum8 hK.1 r9 8 ha; omega) (by rw [hb]; exact hd) (fun vm₁ hW₁ => ⟨by show k1 + _ ≤ _; omega, by show n1 + _ ≤ _; omega, by show _ = _; rw [List.map_cons, vf_hi G r4], by show gd_R G h T.heap; rw [hT]; exact hR, KN.moved (U := T.setVm vm₁) hW₁ hK⟩)
      next => cases hr
    next => cases hr
  next => cases hr
/-! what catches -/
/-- a handler's row: from, to, where, its class's entry and name, the kinds that it takes, kinds that it doesn't -/
abbrev gd_hr : Type := (Nat × Nat × Nat × Nat) × String × List Nat × List Nat
def gd_ctc (t pc : Nat) : List gd_hr → Option (Option Nat)
  | [] => if t = 11 ∨ t = 24 ∨ t = 25 then some none else none
  | r :: rs => if r.1.1 ≤ pc ∧ pc < r.1.2.1 then (if t ∈ r.2.2.1 then some (some r.1.2.2.1) else if t ∈ r.2.2.2 then gd_ctc t pc rs else none) else gd_ctc t pc rs
/-- what a table of handlers asks of the tables -/
def gd_hok (M : gd_M) (rs : List gd_hr) : Prop := M.2.2.2.2 = rs.map (fun r => r.1) ∧ ∀ r ∈ rs, r.1.2.2.2 ≠ 0 ∧ Cond.classLink M.1.cls r.1.2.2.2 r.2.1 ∈ lw_all ∧ (∀ t ∈ r.2.2.1, ∃ w, gd_cl t = some w ∧ Cond.castable w.1 r.2.1 ∈ lw_tbl) ∧ ∀ t ∈ r.2.2.2, ∃ w, gd_cl t = some w ∧ ∀ G s, KN G s → va_Nc w.1 r.2.1 s
/-- nothing dead is caught, or goes on -/
theorem gd_ctc0 {M : gd_M} {all : List gd_hr} (hok : gd_hok M all) {pc : Nat} {x : Option Nat} : ∀ {rs : List gd_hr}, (∀ r ∈ rs, r ∈ all) → gd_ctc 0 pc rs = some x → False := by
  intro rs
  induction rs with
  | nil => intro _ h0; simp [gd_ctc] at h0
  | cons r rs ih =>
    intro hin h0
    have ih := ih (fun r' h' => hin r' (List.mem_cons_of_mem _ h'))
    simp only [gd_ctc] at h0
    split at h0
    next =>
      split at h0
      next ht =>
        obtain ⟨w, hw, -⟩ := (hok.2 r (hin r List.mem_cons_self)).2.2.1 0 ht
        cases hw
      next =>
        split at h0
        next => exact ih h0
        next => cases h0
    next => exact ih h0
section CATCH
variable {G : gd_G} {p : Program} {l : Launch} {e : Env} {R : Room} {s : State} {m : MethodId} {args : Array Value} {below : List Frame} {meth : Method} {c : Code} {Q : State → Prop}
theorem gd_xcell {h : gd_H} {H : Heap} {a : Nat} {w : vw_C} (hK : KN G s) (hR : gd_R G h H) (hc : gd_cl (gT h a) = some w) : ∃ cell : Cell, H[ad G a]? = some cell ∧ cell.vm = .none ∧ s.vm.findClass w.1 = some cell.cls := by
  obtain ⟨cell, q1, q2, q3, -⟩ := (hR.2.2.2.2.2.2 a).1 w hc
  obtain ⟨hf, -⟩ := (hK.2.1 _ w hc).2
  exact ⟨cell, q1, q3, by rw [q2]; exact hf⟩
theorem gd_catch {M : gd_M} {d zf uf z0 u0 pc a : Nat} {L : List Value} {h : gd_H} {all : List gd_hr} (cx : Cx G l M d zf uf z0 u0 p R s m args meth c) (hok : gd_hok M all) (h4 : 4 ≤ a) :
    ∀ (rs pre : List gd_hr), all = pre ++ rs → (∀ r ∈ pre, (¬ (r.1.1 ≤ pc ∧ pc < r.1.2.1)) ∨ gT h a ∈ r.2.2.2) →
    (∀ hp, gd_ctc (gT h a) pc rs = some (some hp) → VW G p l e R s m args below meth c Q M.2.2.1 z0 u0 hp L [.ref a] h → XW G p l e R s m args below meth c Q M.2.2.1 z0 u0 pc L a h) ∧
    (gd_ctc (gT h a) pc rs = some none → (∀ t, FQ G R s args below (.inr a) h t → Q t) → gS h ≤ zf → gU h ≤ uf → XW G p l e R s m args below meth c Q M.2.2.1 z0 u0 pc L a h) := by
  obtain ⟨hx, hb, hml, hr, hown, hts, hK, hlocks, htab, hmn, hst, hfr, hlo, hz, hu⟩ := id cx
  have hcov : ∀ (r : gd_hr), covers (⟨r.1.1, r.1.2.1, r.1.2.2.1, r.1.2.2.2⟩ : ExceptionTableEntry) pc = true ↔ (r.1.1 ≤ pc ∧ pc < r.1.2.1) := by
    intro r
    simp [covers]
  have hpass : ∀ (ls : List gd_hr), (∀ r ∈ ls, r ∈ all) → (∀ r ∈ ls, (¬ (r.1.1 ≤ pc ∧ pc < r.1.2.1)) ∨ gT h a ∈ r.2.2.2) → ∀ {w : vw_C}, gd_cl (gT h a) = some w → ∀ z ∈ ls.map (fun r => (⟨r.1.1, r.1.2.1, r.1.2.2.1, r.1.2.2.2⟩ : ExceptionTableEntry)), covers z pc = false ∨ (z.catchType ≠ 0 ∧ ∃ nm : String, (Cond.classLink M.1.cls z.catchType nm).before args s = true ∧ va_Nc w.1 nm s) := by
    intro ls hin hp w hw z hz
    obtain ⟨r, hr1, hr2⟩ := List.mem_map.mp hz
    subst hr2
    obtain ⟨o1, o2, o3, o4⟩ := hok.2 r (hin r hr1)
    rcases hp r hr1 with q | q
    · refine Or.inl ?_
      cases hc : covers (⟨r.1.1, r.1.2.1, r.1.2.2.1, r.1.2.2.2⟩ : ExceptionTableEntry) pc with
      | false => rfl
      | true => exact absurd ((hcov r).mp hc) q
    · obtain ⟨w', e1, e2⟩ := o4 _ q
      cases e1.symm.trans hw
      exact Or.inr ⟨o1, r.2.1, hts _ o2, e2 G s hK⟩
  have htl : c.exceptionTable.toList = all.map (fun r => (⟨r.1.1, r.1.2.1, r.1.2.2.1, r.1.2.2.2⟩ : ExceptionTableEntry)) := by
    rw [htab, hok.1, tableOf, List.map_map]
    rfl
  intro rs
  induction rs with
  | nil =>
    intro pre hall hpre
    refine ⟨fun hp e9 => ?_, fun e9 hQ ez eu => fun H locs ls k1 n1 rest hR hl hls e1 e2 => ?_⟩
    · simp only [gd_ctc] at e9
      split at e9 <;> cases e9
    · simp only [gd_ctc] at e9
      split at e9
      next ht =>
        have hcl : ∃ w, gd_cl (gT h a) = some w := by
          rcases ht with q | q | q <;> rw [q] <;> exact ⟨_, rfl⟩
        obtain ⟨w, hw⟩ := hcl
        obtain ⟨cell, r1, r2, r3⟩ := gd_xcell hK hR hw
        have h1 : k1 ≤ R.cells := by omega
        have h2 : n1 ≤ R.slots := by omega
        rw [List.append_nil] at hall
        subst hall
        intro T hT X
        obtain ⟨t, q1, q2⟩ := vy_outP (Qc := gd_Qc G (.inr a) h) (XC := gd_XC G (.inr a) h) (free := gd_A G) (mc := R.cells) (ms := R.slots) hown hlocks (by rw [htl]; exact hpass all (fun r h => h) hpre hw) r1 r2 r3 (fun t ht _ => ⟨a, w, rfl, rfl, hw, rfl, by rw [ht]; exact hR⟩) hl h1 h2 T hT X
        exact ⟨t, q1, hQ t q2⟩
      next => cases e9
  | cons r rs ih =>
    intro pre hall hpre
    have hr0 : r ∈ all := by rw [hall]; exact List.mem_append_right _ List.mem_cons_self
    simp only [gd_ctc]
    split
    next hc =>
      split
      next ht =>
        refine ⟨fun hp e9 k => fun H locs ls k1 n1 rest hR hl hls e1 e2 => ?_, fun e9 => by cases e9⟩
        cases e9
        obtain ⟨o1, o2, o3, o4⟩ := hok.2 r hr0
        obtain ⟨w, hw, hca⟩ := o3 _ ht
        obtain ⟨cell, r1, r2, r3⟩ := gd_xcell hK hR hw
        have kk := k H locs ls k1 n1 hR hl hls e1 e2
        rw [List.map_cons, List.map_nil, vf_hi G h4] at kk
        refine vx_catch hown (pre.map (fun r => (⟨r.1.1, r.1.2.1, r.1.2.2.1, r.1.2.2.2⟩ : ExceptionTableEntry))) ⟨r.1.1, r.1.2.1, r.1.2.2.1, r.1.2.2.2⟩ (rs.map (fun r => (⟨r.1.1, r.1.2.1, r.1.2.2.1, r.1.2.2.2⟩ : ExceptionTableEntry))) (by rw [htl, hall, List.map_append, List.map_cons]) (hpass pre (fun r h => by rw [hall]; exact List.mem_append_left _ h) hpre hw) ((hcov r).mpr hc) o1 (hts _ o2) (hK.nest hca rfl rfl args) r1 r2 r3 kk
      next ht =>
        split
        next hn =>
          exact ih (pre ++ [r]) (by rw [hall]; simp) (fun r' hr' => by
            rcases List.mem_append.mp hr' with q | q
            · exact hpre r' q
            · rw [List.mem_singleton.mp q]; exact Or.inr hn)
        next => exact ⟨fun hp e9 => (by cases e9), fun e9 => (by cases e9)⟩
    next hc =>
      exact ih (pre ++ [r]) (by rw [hall]; simp) (fun r' hr' => by
        rcases List.mem_append.mp hr' with q | q
        · exact hpre r' q
        · rw [List.mem_singleton.mp q]; exact Or.inl hc)
end CATCH
/-! a run is sound -/
/-- a program: methods, their code, their handlers; all of it sound -/
def gd_ok (mt : Nat → gd_M) (hd : Nat → List gd_hr) (P : gd_P) : Prop := (∀ k pc, Sd mt (mt k) pc (P.1 k pc)) ∧ (∀ k pc t, P.2.1 k pc t = gd_ctc t pc (hd k)) ∧ (∀ k, P.2.2 k = (mt k).2.2.1) ∧ (∀ k, gd_hok (mt k) (hd k))
theorem gd_goN {mt : Nat → gd_M} {hd : Nat → List gd_hr} {P : gd_P} (hP : gd_ok mt hd P) {G : gd_G} {l : Launch} {d : Nat} {C : gd_C} (hC : ∀ k as h o h2, C k as h = some (o, h2) → XM G l d (mt k) as h o h2) {k : Nat}
    {p : Program} {e : Env} {R : Room} {s : State} {m : MethodId} {args : Array Value} {below : List Frame} {meth : Method} {c : Code} {Q : State → Prop} {zf uf z0 u0 : Nat} (cx : Cx G l (mt k) d zf uf z0 u0 p R s m args meth c) {o : Option Value ⊕ Nat} {hf : gd_H} (hQ : ∀ t, FQ G R s args below o hf t → Q t) (ez : gS hf ≤ zf) (eu : gU hf ≤ uf) :
    ∀ (n pc : Nat) (L st : List Value) (h : gd_H), goN P C k n pc L st h = some (o, hf) → gS h ≤ gS hf ∧ gU h ≤ gU hf ∧ VW G p l e R s m args below meth c Q (mt k).2.2.1 z0 u0 pc L st h := by
  have hcat : ∀ (L : List Value) (a pc : Nat) (h : gd_H), (∀ hp, gd_ctc (gT h a) pc (hd k) = some (some hp) → VW G p l e R s m args below meth c Q (mt k).2.2.1 z0 u0 hp L [.ref a] h → XW G p l e R s m args below meth c Q (mt k).2.2.1 z0 u0 pc L a h) ∧
      (gd_ctc (gT h a) pc (hd k) = some none → (∀ t, FQ G R s args below (.inr a) h t → Q t) → gS h ≤ zf → gU h ≤ uf → XW G p l e R s m args below meth c Q (mt k).2.2.1 z0 u0 pc L a h) := by
    intro L a pc h
    have key : gT h a ≠ 0 → (∃ H, gd_R G h H) → 4 ≤ a := fun h0 ⟨H, hR⟩ => gd_ge4 cx.2.2.2.2.2.2.1.1 hR h0
    refine ⟨fun hp e1 kv => fun H locs ls k1 n1 rest hR => ?_, fun e1 q1 q2 q3 => fun H locs ls k1 n1 rest hR => ?_⟩
    · have h0 : gT h a ≠ 0 := fun z => by
        rw [z] at e1
        exact gd_ctc0 (hP.2.2.2 k) (fun r h => h) e1
      exact (gd_catch cx (hP.2.2.2 k) (key h0 ⟨H, hR⟩) (hd k) [] rfl (fun r hr => by cases hr)).1 hp e1 kv H locs ls k1 n1 rest hR
    · have h0 : gT h a ≠ 0 := fun z => by
        rw [z] at e1
        exact gd_ctc0 (hP.2.2.2 k) (fun r h => h) e1
      exact (gd_catch cx (hP.2.2.2 k) (key h0 ⟨H, hR⟩) (hd k) [] rfl (fun r hr => by cases hr)).2 e1 q1 q2 q3 H locs ls k1 n1 rest hR
  intro n
  induction n with
  | zero => intro pc L st h e1; cases e1
  | succ n ih =>
    intro pc L st h e1
    rw [goN] at e1
    split at e1
    next => cases e1
    next q L' st' h' er =>
      obtain ⟨a1, a2, a3⟩ := (hP.1 k pc).2 G l d C hC p e R s m args below meth c Q zf uf z0 u0 cx L st h _ er
      obtain ⟨b1, b2, b3⟩ := ih _ _ _ _ e1
      exact ⟨Nat.le_trans a1 b1, Nat.le_trans a2 b2, a3 (by omega) (by omega) b3⟩
    next k' as q L' st' h' er =>
      obtain ⟨a0, a1⟩ := (hP.1 k pc).2 G l d C hC p e R s m args below meth c Q zf uf z0 u0 cx L st h _ er
      subst a0
      split at e1
      next => cases e1
      next v h2 ec =>
        obtain ⟨c1, c2, c3⟩ := a1 _ _ ec
        obtain ⟨b1, b2, b3⟩ := ih _ _ _ _ e1
        exact ⟨Nat.le_trans c1 b1, Nat.le_trans c2 b2, c3 (by omega) (by omega) (fun v' ev => by cases ev; exact b3) (fun a ea => by cases ea)⟩
      next a h2 ec =>
        obtain ⟨c1, c2, c3⟩ := a1 _ _ ec
        rw [hP.2.1] at e1
        split at e1
        next hp eh =>
          obtain ⟨b1, b2, b3⟩ := ih _ _ _ _ e1
          exact ⟨Nat.le_trans c1 b1, Nat.le_trans c2 b2, c3 (by omega) (by omega) (fun v' ev => by cases ev) (fun a' ea => by cases ea; exact (hcat _ _ _ _).1 hp eh b3)⟩
        next eh =>
          cases e1
          exact ⟨c1, c2, c3 (by omega) (by omega) (fun v' ev => by cases ev) (fun a' ea => by cases ea; exact (hcat _ _ _ _).2 eh hQ ez eu)⟩
        next => cases e1
    next v h' er =>
      obtain ⟨a0, a1⟩ := (hP.1 k pc).2 G l d C hC p e R s m args below meth c Q zf uf z0 u0 cx L st h _ er
      subst a0
      cases e1
      exact ⟨Nat.le_refl _, Nat.le_refl _, a1 hQ ez eu⟩
    next a h' er =>
      obtain ⟨a0, a1⟩ := (hP.1 k pc).2 G l d C hC p e R s m args below meth c Q zf uf z0 u0 cx L st h _ er
      subst a0
      rw [hP.2.1] at e1
      split at e1
      next hp eh =>
        obtain ⟨b1, b2, b3⟩ := ih _ _ _ _ e1
        exact ⟨b1, b2, a1 ((hcat _ _ _ _).1 hp eh b3)⟩
      next eh =>
        cases e1
        exact ⟨Nat.le_refl _, Nat.le_refl _, a1 ((hcat _ _ _ _).2 eh hQ ez eu)⟩
      next => cases e1
theorem goN_grow {P : gd_P} (hP : ∀ k pc, Sm (P.1 k pc)) {C : gd_C} (hC : ∀ k as h o h2, C k as h = some (o, h2) → gS h ≤ gS h2 ∧ gU h ≤ gU h2) {k : Nat} {o : Option Value ⊕ Nat} {hf : gd_H} :
    ∀ (n pc : Nat) (L st : List Value) (h : gd_H), goN P C k n pc L st h = some (o, hf) → gS h ≤ gS hf ∧ gU h ≤ gU hf := by
  intro n
  induction n with
  | zero => intro pc L st h e1; cases e1
  | succ n ih =>
    intro pc L st h e1
    rw [goN] at e1
    split at e1
    next => cases e1
    next q L' st' h' er =>
      obtain ⟨a1, a2⟩ := hP k pc L st h _ er
      obtain ⟨b1, b2⟩ := ih _ _ _ _ e1
      exact ⟨Nat.le_trans a1 b1, Nat.le_trans a2 b2⟩
    next k' as q L' st' h' er =>
      have a0 : h' = h := hP k pc L st h _ er
      subst a0
      split at e1
      next => cases e1
      next v h2 ec =>
        obtain ⟨a1, a2⟩ := hC _ _ _ _ _ ec
        obtain ⟨b1, b2⟩ := ih _ _ _ _ e1
        exact ⟨Nat.le_trans a1 b1, Nat.le_trans a2 b2⟩
      next a h2 ec =>
        obtain ⟨a1, a2⟩ := hC _ _ _ _ _ ec
        split at e1
        next hp eh =>
          obtain ⟨b1, b2⟩ := ih _ _ _ _ e1
          exact ⟨Nat.le_trans a1 b1, Nat.le_trans a2 b2⟩
        next eh =>
          cases e1
          exact ⟨a1, a2⟩
        next => cases e1
    next v h' er =>
      have a0 : h' = h := hP k pc L st h _ er
      subst a0
      cases e1
      exact ⟨Nat.le_refl _, Nat.le_refl _⟩
    next a h' er =>
      have a0 : h' = h := hP k pc L st h _ er
      subst a0
      split at e1
      next hp eh => exact ih _ _ _ _ e1
      next eh =>
        cases e1
        exact ⟨Nat.le_refl _, Nat.le_refl _⟩
      next => cases e1
theorem run_grow {P : gd_P} (hP : ∀ k pc, Sm (P.1 k pc)) : ∀ (d k : Nat) (as : List Value) (h : gd_H) (o : Option Value ⊕ Nat) (h2 : gd_H), run P d k as h = some (o, h2) → gS h ≤ gS h2 ∧ gU h ≤ gU h2 := by
  intro d
  induction d with
  | zero => intro k as h o h2 e; cases e
  | succ d ih =>
    intro k as h o h2 e
    rw [run] at e
    split at e
    next =>
      obtain ⟨n, hn⟩ := lim_ex e
      exact goN_grow hP ih n 0 _ [] h hn
    next => cases e
theorem sprd_get {G : gd_G} (Z : gd_Z G) : ∀ (as : List Value) (i : Nat) (pre : List Value) (v : Value), (sprd as)[i]? = some v → v ≠ .null → (pre.length + i, vf G v) ∈ lv_args pre.length (as.map (vf G))
  | [], i, pre, v, h, _ => by simp [sprd] at h
  | a :: r, i, pre, v, h, hv => by
    have hc := vf_cat Z a
    by_cases h2 : a.category = 2
    · have hs : sprd (a :: r) = a :: .null :: sprd r := by
        cases a <;> first | rfl | (simp [Value.category] at h2; done)
      rw [hs] at h
      match i, h with
      | 0, h =>
        simp only [List.getElem?_cons_zero, Option.some.injEq] at h
        subst h
        exact List.mem_cons_self
      | 1, h =>
        simp only [List.getElem?_cons_succ, List.getElem?_cons_zero, Option.some.injEq] at h
        exact absurd h.symm hv
      | i + 2, h =>
        simp only [List.getElem?_cons_succ] at h
        have k := sprd_get Z r i (.null :: .null :: pre) v h hv
        simp only [List.map_cons, lv_args]
        rw [if_pos (by rw [hc]; exact h2)]
        refine List.mem_cons_of_mem _ ?_
        simp only [List.length_cons] at k
        rw [show pre.length + (i + 2) = pre.length + 1 + 1 + i by omega, show pre.length + 2 = pre.length + 1 + 1 by omega]
        exact k
    · have hs : sprd (a :: r) = a :: sprd r := by
        cases a <;> first | rfl | exact absurd rfl h2
      rw [hs] at h
      match i, h with
      | 0, h =>
        simp only [List.getElem?_cons_zero, Option.some.injEq] at h
        subst h
        exact List.mem_cons_self
      | i + 1, h =>
        simp only [List.getElem?_cons_succ] at h
        have k := sprd_get Z r i (.null :: pre) v h hv
        simp only [List.map_cons, lv_args]
        rw [if_neg (by rw [hc]; exact h2)]
        refine List.mem_cons_of_mem _ ?_
        simp only [List.length_cons] at k
        rw [show pre.length + (i + 1) = pre.length + 1 + i by omega]
        exact k
theorem sprd_len {G : gd_G} (Z : gd_Z G) : ∀ (as : List Value), (lg_sl (as.map (vf G))).length = (sprd as).length
  | [] => rfl
  | a :: r => by
    have ih := sprd_len Z r
    have hc := vf_cat Z a
    have e : lg_sl ((a :: r).map (vf G)) = (if (vf G a).category = 2 then [.val (vf G a), .second] else [.val (vf G a)]) ++ lg_sl (r.map (vf G)) := by simp [lg_sl]
    rw [e, List.length_append, ih]
    by_cases h2 : a.category = 2
    · have hs : sprd (a :: r) = a :: .null :: sprd r := by
        cases a <;> first | rfl | (simp [Value.category] at h2; done)
      rw [if_pos (by rw [hc]; exact h2), hs]
      simp
      omega
    · have hs : sprd (a :: r) = a :: sprd r := by
        cases a <;> first | rfl | exact absurd rfl h2
      rw [if_neg (by rw [hc]; exact h2), hs]
      simp
      omega
/-- the locals of a fresh frame -/
theorem en_lvr {G : gd_G} (Z : gd_Z G) {as : List Value} {n : Nat} (h : (sprd as).length ≤ n) : lvr G ((lg_sl (as.map (vf G)) ++ List.replicate (n - (lg_sl (as.map (vf G))).length) Slot.unset).toArray) n (en n as) := by
  obtain ⟨a1, a2, a3⟩ := lv_entry (as.map (vf G)) (n := n) (by rw [sprd_len Z]; exact h)
  refine ⟨a1, a2, fun i v hi hv => ?_⟩
  unfold en at hi
  rcases Nat.lt_or_ge i (sprd as).length with q | q
  · rw [List.getElem?_append_left q] at hi
    have k := a3 _ (sprd_get Z as i [] v hi hv)
    simpa using k
  · rw [List.getElem?_append_right q] at hi
    have := List.eq_of_mem_replicate (List.mem_of_getElem? hi)
    exact absurd this hv
/-- A RUN IS SOUND -/
theorem gd_sound {mt : Nat → gd_M} {hd : Nat → List gd_hr} {P : gd_P} (hP : gd_ok mt hd P) (hy : ∀ k, plainName (mt k).1.cls = true) {G : gd_G} {l : Launch} (hst : l.stackTraces = false) :
    ∀ (d k : Nat) (as : List Value) (h : gd_H) (o : Option Value ⊕ Nat) (h2 : gd_H), run P d k as h = some (o, h2) → XM G l d (mt k) as h o h2 := by
  intro d
  induction d with
  | zero => intro k as h o h2 e; cases e
  | succ d ih =>
    intro k as h o h2 e1
    obtain ⟨g1, g2⟩ := run_grow (fun k pc => (hP.1 k pc).1) (d + 1) k as h o h2 e1
    refine ⟨g1, g2, ?_⟩
    rw [run] at e1
    split at e1
    next hl =>
      obtain ⟨n, hn⟩ := lim_ex e1
      have body : ∀ (ws : List Cond) (p : Program) (e : Env) (s : State) (m : MethodId) (args : Array Value) (below : List Frame) (meth : Method) (c : Code) (s₁ : State), (∀ w ∈ lw_all, w ∈ ws) → BodyLoose p l (mt k).1 (headSpec ws (gd_rm (d + 1) (gS h2 - gS h) (gU h2 - gU h))) (mt k).2.1 (mt k).2.2.1 (mt k).2.2.2.1 e s m args below meth c s₁ → c.maxLocals = (mt k).2.2.1 → c.exceptionTable.toList = tableOf (mt k).2.2.2.2 → gd_Pc G as h args s →
          W p l e (headSpec ws (gd_rm (d + 1) (gS h2 - gS h) (gU h2 - gU h))).room s m args below meth c s.heap [] 0 0 (vy_MQ below (gd_Qc G o h2) (gd_XC G o h2) args s (gS h2 - gS h) (gU h2 - gU h) (gd_A G)) (entryFrame m args (mt k).2.2.1) := by
        intro ws p e s m args below meth c s₁ hsub B hml htab hPc
        obtain ⟨rfl, hR, hK⟩ := hPc
        have hts0 := atoms_spec (ws := ws) B.pre
        have hts : ∀ w ∈ lw_all, w.before ((as.map (vf G)).toArray) s = true := fun w hw => hts0 w (hsub w hw)
        have cx : Cx G l (mt k) d (gS h2) (gU h2) (gS h) (gU h) p (gd_rm (d + 1) (gS h2 - gS h) (gU h2 - gU h)) s m ((as.map (vf G)).toArray) meth c :=
          ⟨B.exec, B.bytes, hml, B.returns, findClass_of_methodNamed B.named, hts, hK, B.notSynchronized, htab, (name_of_methodNamed B.named B.method).1, hst, by show _ ≤ d + 1 + 13; omega, by show _ ≤ 72 * (d + 1) + 464; omega, by show _ = _ + (gS h2 - gS h); omega, by show _ = _ + (gU h2 - gU h); omega⟩
        obtain ⟨-, -, V⟩ := gd_goN (e := e) (below := below) hP ih cx (fun t ht => ht) (Nat.le_refl _) (Nat.le_refl _) n 0 _ [] h hn
        rw [hP.2.2.1] at V hl
        rw [lg_entry_eq]
        exact V s.heap [] _ 0 0 hR (fun q hq => by cases hq) (en_lvr hK.1 hl) rfl rfl
      unfold gd_ws
      split
      next e9 =>
        refine vy_ofW (cc := (mt k).2.1) (maxL := (mt k).2.2.1) (ret := (mt k).2.2.2.1) (hy k) rfl ?_
        intro p e s m args below meth c s₁ B hml ht hPc
        exact body _ p e s m args below meth c s₁ (fun w hw => List.mem_cons_of_mem _ hw) B hml (by
          rw [e9]
          cases hx : c.exceptionTable.toList with
          | nil => rfl
          | cons x r => exact absurd (ht x (by rw [hx]; exact List.mem_cons_self)) id) hPc
      next e9 =>
        refine vy_ofWH (cc := (mt k).2.1) (maxL := (mt k).2.2.1) (ret := (mt k).2.2.2.1) (hh := (mt k).2.2.2.2) (hy k) rfl ?_
        intro p e s m args below meth c s₁ B hml hPc
        exact body _ p e s m args below meth c s₁ (fun w hw => List.mem_cons_of_mem _ hw) B hml (vx_table (x := (mt k).1) B (atoms_spec (ws := wsW_ (mt k).1 (mt k).2.1 (mt k).2.2.1 (mt k).2.2.2.1 (mt k).2.2.2.2) B.pre _ List.mem_cons_self)) hPc
    next => cases e1


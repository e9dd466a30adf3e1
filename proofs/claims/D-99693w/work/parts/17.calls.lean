/-! ===== RETURNS, THROWS, CALLS ===== -/
set_option maxRecDepth 100000
theorem gd_fin9 {G : gd_G} {p : Program} {l : Launch} {e : Env} {R : Room} {s : State} {m : MethodId} {args : Array Value} {below : List Frame} {meth : Method} {c : Code} {H : Heap} {locs : List Loc} {Q : State → Prop} {zf uf z0 u0 k1 n1 : Nat} {g : JFrame} {h : gd_H} {v : Option Value}
    (hQ : ∀ t, FQ G R s args below (.inl v) h t → Q t) (ez : gS h ≤ zf) (eu : gU h ≤ uf) (hz : zf = z0 + R.cells) (hu : uf = u0 + R.slots) (e1 : gS h = z0 + k1) (e2 : gU h = u0 + n1)
    (k : W p l e R s m args below meth c H locs R.cells R.slots (MQ below (gd_Qc G (.inl v) h) args s R.cells R.slots (gd_A G)) g) : W p l e R s m args below meth c H locs k1 n1 Q g := by
  refine W.widen (k := R.cells) (n := R.slots) (by omega) (by omega) ?_
  intro T hT X
  obtain ⟨t, a, b⟩ := vy_ret (XC := gd_XC G (.inl v) h) k T hT X
  exact ⟨t, a, hQ t b⟩
def i_ret : gd_I := fun L st h => match st with
  | [] => dn (.inl none) h
  | _ => none
def i_iret : gd_I := fun L st h => match st with
  | [.int x] => dn (.inl (some (.int x))) h
  | _ => none
def i_zret : gd_I := fun L st h => match st with
  | [.int x] => if x = 0 ∨ x = 1 then dn (.inl (some (.int x))) h else none
  | _ => none
def i_bret : gd_I := fun L st h => match st with
  | [.int x] => if x.toInt8.toInt32 = x then dn (.inl (some (.int x))) h else none
  | _ => none
def i_cret : gd_I := fun L st h => match st with
  | [.int x] => if x.toUInt32.toUInt16.toUInt32.toInt32 = x then dn (.inl (some (.int x))) h else none
  | _ => none
def i_lret : gd_I := fun L st h => match st with
  | [.long x] => dn (.inl (some (.long x))) h
  | _ => none
def i_aret : gd_I := fun L st h => match st with
  | [.ref x] => dn (.inl (some (.ref x))) h
  | _ => none
def i_thr : gd_I := fun L st h => match st with
  | .ref a :: _ => if 4 ≤ a then dn (.inr a) h else none
  | _ => none
theorem sm_ret : Sm i_ret := by
  intro L st h r hr
  unfold i_ret at hr
  split at hr
  next => cases hr; rfl
  next => cases hr
theorem sd_ret {mt : Nat → gd_M} {M : gd_M} {pc : Nat} (hr9 : M.2.2.2.1 = none) (hd : decode M.2.1 pc = .ok (.return_, 1)) : Sd mt M pc i_ret := by
  refine ⟨sm_ret, ?_⟩
  intro G l d C hC p e R s m args below meth c Q zf uf z0 u0 cx L st h r hr
  unfold i_ret at hr
  split at hr
  next =>
    cases hr
    obtain ⟨hx, hb, hml, hr, hown, hts, hK, hlocks, -, -, -, hfr, hlo, hz, hu⟩ := cx
    exact ⟨rfl, fun hQ ez eu => fun H locs ls k1 n1 hR hl hls e1 e2 => gd_fin9 hQ ez eu hz hu e1 e2 (W.vret hx hb (hr.trans hr9) (fun t ht _ => ⟨_, rfl, rfl, by rw [ht]; exact hR⟩) hl hd hlocks)⟩
  next => cases hr
theorem sm_iret : Sm i_iret := by
  intro L st h r hr
  unfold i_iret at hr
  split at hr
  next => cases hr; rfl
  next => cases hr
theorem sd_iret {mt : Nat → gd_M} {M : gd_M} {pc : Nat} (hr9 : M.2.2.2.1 = some .int) (hd : decode M.2.1 pc = .ok (.ireturn, 1)) : Sd mt M pc i_iret := by
  refine ⟨sm_iret, ?_⟩
  intro G l d C hC p e R s m args below meth c Q zf uf z0 u0 cx L st h r hr
  unfold i_iret at hr
  split at hr
  next x =>
    cases hr
    obtain ⟨hx, hb, hml, hr, hown, hts, hK, hlocks, -, -, -, hfr, hlo, hz, hu⟩ := cx
    exact ⟨rfl, fun hQ ez eu => fun H locs ls k1 n1 hR hl hls e1 e2 => gd_fin9 hQ ez eu hz hu e1 e2 (W.iret hx hb (hr.trans hr9) (fun t ht _ => ⟨_, rfl, rfl, by rw [ht]; exact hR⟩) hl hd hlocks)⟩
  next => cases hr
theorem sm_zret : Sm i_zret := by
  intro L st h r hr
  unfold i_zret at hr
  split at hr
  next => split at hr <;> cases hr <;> rfl
  next => cases hr
theorem sd_zret {mt : Nat → gd_M} {M : gd_M} {pc : Nat} (hr9 : M.2.2.2.1 = some .boolean) (hd : decode M.2.1 pc = .ok (.ireturn, 1)) : Sd mt M pc i_zret := by
  refine ⟨sm_zret, ?_⟩
  intro G l d C hC p e R s m args below meth c Q zf uf z0 u0 cx L st h r hr
  unfold i_zret at hr
  split at hr
  next x =>
    split at hr
    next hg =>
      cases hr
      obtain ⟨hx, hb, hml, hr, hown, hts, hK, hlocks, -, -, -, hfr, hlo, hz, hu⟩ := cx
      exact ⟨rfl, fun hQ ez eu => fun H locs ls k1 n1 hR hl hls e1 e2 => gd_fin9 hQ ez eu hz hu e1 e2 (W.zret hx hb (hr.trans hr9) (by rcases hg with rfl | rfl <;> rfl) (fun t ht _ => ⟨_, rfl, rfl, by rw [ht]; exact hR⟩) hl hd hlocks)⟩
    next => cases hr
  next => cases hr
theorem sm_bret : Sm i_bret := by
  intro L st h r hr
  unfold i_bret at hr
  split at hr
  next => split at hr <;> cases hr <;> rfl
  next => cases hr
theorem sd_bret {mt : Nat → gd_M} {M : gd_M} {pc : Nat} (hr9 : M.2.2.2.1 = some .byte) (hd : decode M.2.1 pc = .ok (.ireturn, 1)) : Sd mt M pc i_bret := by
  refine ⟨sm_bret, ?_⟩
  intro G l d C hC p e R s m args below meth c Q zf uf z0 u0 cx L st h r hr
  unfold i_bret at hr
  split at hr
  next x =>
    split at hr
    next hg =>
      cases hr
      obtain ⟨hx, hb, hml, hr, hown, hts, hK, hlocks, -, -, -, hfr, hlo, hz, hu⟩ := cx
      exact ⟨rfl, fun hQ ez eu => fun H locs ls k1 n1 hR hl hls e1 e2 => gd_fin9 hQ ez eu hz hu e1 e2 (W.zret hx hb (hr.trans hr9) (congrArg Value.int hg) (fun t ht _ => ⟨_, rfl, rfl, by rw [ht]; exact hR⟩) hl hd hlocks)⟩
    next => cases hr
  next => cases hr
theorem sm_cret : Sm i_cret := by
  intro L st h r hr
  unfold i_cret at hr
  split at hr
  next => split at hr <;> cases hr <;> rfl
  next => cases hr
theorem sd_cret {mt : Nat → gd_M} {M : gd_M} {pc : Nat} (hr9 : M.2.2.2.1 = some .char) (hd : decode M.2.1 pc = .ok (.ireturn, 1)) : Sd mt M pc i_cret := by
  refine ⟨sm_cret, ?_⟩
  intro G l d C hC p e R s m args below meth c Q zf uf z0 u0 cx L st h r hr
  unfold i_cret at hr
  split at hr
  next x =>
    split at hr
    next hg =>
      cases hr
      obtain ⟨hx, hb, hml, hr, hown, hts, hK, hlocks, -, -, -, hfr, hlo, hz, hu⟩ := cx
      exact ⟨rfl, fun hQ ez eu => fun H locs ls k1 n1 hR hl hls e1 e2 => gd_fin9 hQ ez eu hz hu e1 e2 (W.zret hx hb (hr.trans hr9) (congrArg Value.int hg) (fun t ht _ => ⟨_, rfl, rfl, by rw [ht]; exact hR⟩) hl hd hlocks)⟩
    next => cases hr
  next => cases hr
theorem sm_lret : Sm i_lret := by
  intro L st h r hr
  unfold i_lret at hr
  split at hr
  next => cases hr; rfl
  next => cases hr
theorem sd_lret {mt : Nat → gd_M} {M : gd_M} {pc : Nat} (hr9 : M.2.2.2.1 = some .long) (hd : decode M.2.1 pc = .ok (.lreturn, 1)) : Sd mt M pc i_lret := by
  refine ⟨sm_lret, ?_⟩
  intro G l d C hC p e R s m args below meth c Q zf uf z0 u0 cx L st h r hr
  unfold i_lret at hr
  split at hr
  next x =>
    cases hr
    obtain ⟨hx, hb, hml, hr, hown, hts, hK, hlocks, -, -, -, hfr, hlo, hz, hu⟩ := cx
    exact ⟨rfl, fun hQ ez eu => fun H locs ls k1 n1 hR hl hls e1 e2 => gd_fin9 hQ ez eu hz hu e1 e2 (W.lret hx hb (hr.trans hr9) (fun t ht _ => ⟨_, rfl, rfl, by rw [ht]; exact hR⟩) hl hd hlocks)⟩
  next => cases hr
theorem sm_aret : Sm i_aret := by
  intro L st h r hr
  unfold i_aret at hr
  split at hr
  next => cases hr; rfl
  next => cases hr
theorem sd_aret {mt : Nat → gd_M} {M : gd_M} {pc : Nat} {rt9 : FieldType} (hrt : (∃ n, rt9 = .object n) ∨ ∃ t, rt9 = .array t) (hr9 : M.2.2.2.1 = some rt9) (hd : decode M.2.1 pc = .ok (.areturn, 1)) : Sd mt M pc i_aret := by
  refine ⟨sm_aret, ?_⟩
  intro G l d C hC p e R s m args below meth c Q zf uf z0 u0 cx L st h r hr
  unfold i_aret at hr
  split at hr
  next x =>
    cases hr
    obtain ⟨hx, hb, hml, hr, hown, hts, hK, hlocks, -, -, -, hfr, hlo, hz, hu⟩ := cx
    exact ⟨rfl, fun hQ ez eu => fun H locs ls k1 n1 hR hl hls e1 e2 => gd_fin9 hQ ez eu hz hu e1 e2 (W.aret hx hb (hr.trans hr9) hrt (vf_isRef hK.1 x) (fun t ht _ => ⟨_, rfl, rfl, by rw [ht]; exact hR⟩) hl hd hlocks)⟩
  next => cases hr
theorem sm_thr : Sm i_thr := by
  intro L st h r hr
  unfold i_thr at hr
  split at hr
  next => split at hr <;> cases hr <;> rfl
  next => cases hr
theorem sd_thr {mt : Nat → gd_M} {M : gd_M} {pc : Nat} (hd : decode M.2.1 pc = .ok (.athrow, 1)) : Sd mt M pc i_thr := by
  refine ⟨sm_thr, ?_⟩
  intro G l d C hC p e R s m args below meth c Q zf uf z0 u0 cx L st h r hr
  unfold i_thr at hr
  split at hr
  next a r9 =>
    split at hr
    next hg =>
      cases hr
      obtain ⟨hx, hb, -⟩ := cx
      exact ⟨rfl, fun k => fun H locs ls k1 n1 hR hl hls e1 e2 => by
        rw [List.map_cons, vf_hi G hg]
        exact vx_athrow hx hb hd (k H locs ls k1 n1 _ hR hl hls e1 e2)⟩
    next => cases hr
  next => cases hr
/-- a method's own word is of the tables -/
def gd_cw (M : gd_M) : Prop := if M.2.2.2.2 = [] then Cond.code M.1 M.2.1 M.2.2.1 M.2.2.2.1 ∈ lw_all else Cond.codeWith M.1 M.2.1 M.2.2.1 M.2.2.2.1 M.2.2.2.2 ∈ lw_all
section CALLS
variable {G : gd_G} {p : Program} {l : Launch} {e : Env} {R : Room} {s : State} {m : MethodId} {args : Array Value} {below : List Frame} {meth : Method} {c : Code} {Q : State → Prop}
theorem gd_back {M' : gd_M} {d len : Nat} {as : List Value} {h h2 : gd_H} {o : Option Value ⊕ Nat} (hX : XM G l d M' as h o h2) (hfr : d + 14 ≤ R.frames) (hlo : 72 * d + 536 ≤ R.locals) (hml : M'.2.2.1 ≤ 40) (hcw : gd_cw M') (hini : Cond.initialized M'.1.cls ∈ lw_all) (hts : ∀ w ∈ lw_all, w.before args s = true) :
    vx_Back l R p e below s args M'.1 len 16 (PreOf R (gS h2 - gS h) (gU h2 - gU h) (gd_Pc G as h)) (PostOf (gd_Qc G o h2) (gS h2 - gS h) (gU h2 - gU h) (gd_A G)) (vy_Post (gd_XC G o h2) (gS h2 - gS h) (gU h2 - gU h) (gd_A G)) := by
  obtain ⟨-, -, hM⟩ := hX
  have hfr' : (gd_rm d (gS h2 - gS h) (gU h2 - gU h)).frames + 1 ≤ R.frames := by show d + 13 + 1 ≤ _; omega
  have hlo' : 16 + (M'.2.2.1 + 11) + (gd_rm d (gS h2 - gS h) (gU h2 - gU h)).locals ≤ R.locals := by show _ + (72 * d + 464) ≤ _; omega
  have hin : ∀ (a' : Array Value) (U : State), s.WarmedH U.vm → (Cond.initialized M'.1.cls).before a' U = true := fun a' U hW => word_at hW (Or.inl (by first | rfl | simp [Cond.onTables, Cond.keeps, Cond.steady])) (hts _ hini)
  unfold gd_cw at hcw
  unfold gd_ws at hM
  split at hcw
  next e9 =>
    rw [if_pos e9] at hM
    exact vy_back hM (gd_blind G as h) rfl rfl hfr' hlo' (fun w hw => pay_in hts (lw_meth hcw) w hw) List.mem_cons_self hin
  next e9 =>
    rw [if_neg e9] at hM
    exact vy_backW hM (gd_blind G as h) rfl rfl hfr' hlo' (fun w hw => pay_in hts (lw_methW hcw) w hw) List.mem_cons_self hin
/-- behind a call -/
theorem gd_after {nL z0 u0 pc q len : Nat} {L r9 : List Value} {h h2 : gd_H} {o : Option Value ⊕ Nat} {T : State} {locs : List Loc} {k1 n1 : Nat} {ls : Array Slot} {st As : List Value} (m1 : gS h ≤ gS h2) (m2 : gU h ≤ gU h2) (hq : pc + len = q) (hl : ∀ q ∈ locs, g_b G ≤ q.base) (hls : lvr G ls nL L) (e1 : gS h = z0 + k1) (e2 : gU h = u0 + n1)
    (hv : ∀ v, o = .inl v → VW G p l e R s m args below meth c Q nL z0 u0 q L (v.toList ++ r9) h2) (hx : ∀ a, o = .inr a → XW G p l e R s m args below meth c Q nL z0 u0 pc L a h2)
    (D : (∃ (v : Option Value) (vm₁ : Vm) (B : Pt), s.WarmedH vm₁ ∧ Stand p l e R s m args below meth c B.U B.locs B.cells B.slots ∧ PostOf (gd_Qc G o h2) (gS h2 - gS h) (gU h2 - gU h) (gd_A G) ⟨T.setVm vm₁, locs, k1, n1⟩ As.toArray v B ∧
        ∀ target, Steps p.tables e below (B.U.setTop { (F0 m pc ls st) with pc := (F0 m pc ls st).pc + len, stack := v.toList ++ r9.map (vf G) }) target → Steps p.tables e below (T.setTop (F0 m pc ls st)) target) ∨
      (∃ (q : Addr) (vm₁ : Vm) (B : Pt), s.WarmedH vm₁ ∧ Stand p l e R s m args below meth c B.U B.locs B.cells B.slots ∧ vy_Post (gd_XC G o h2) (gS h2 - gS h) (gU h2 - gU h) (gd_A G) ⟨T.setVm vm₁, locs, k1, n1⟩ As.toArray q B ∧
        Steps p.tables e below (T.setTop (F0 m pc ls st)) ((B.U.setTop { (F0 m pc ls st) with stack := r9.map (vf G) }).pushFrame (.throwing q)))) : ∃ t, Steps p.tables e below (T.setTop (F0 m pc ls st)) t ∧ Q t := by
  have loc : ∀ L2 : List Loc, (∀ q ∈ L2, gd_A G q.base) → ∀ q ∈ locs ++ L2, g_b G ≤ q.base := fun L2 h2 q hq => by
    rcases List.mem_append.mp hq with z | z
    · exact hl q z
    · exact h2 q z
  subst hq
  rcases D with ⟨v, vm₁, ⟨U', l2, c2, s2⟩, hW₁, X', ⟨g', mk, t, L2, b1, b2, ⟨v0, rfl, b3, b4⟩, b5, b6, b7, b8⟩, st1⟩ | ⟨q, vm₁, ⟨U', l2, c2, s2⟩, hW₁, X', ⟨g', mk, t, L2, E, ce, b1, b2, ⟨a, r0, rfl, b3, b4, b5, b6⟩, c1, c2', c3, c4, c5, c6, c7⟩, st1⟩
  · dsimp only [Pt.U, Pt.locs, Pt.cells, Pt.slots] at X' b1 b2 b5 b7 b8 st1
    subst b5; subst b7; subst b8
    cases b3
    obtain ⟨t2, a1, a2⟩ := hv v0 rfl U'.heap (locs ++ L2) ls (k1 + (gS h2 - gS h)) (n1 + (gU h2 - gU h)) (by rw [b1]; exact b4) (loc L2 b6) hls (by omega) (by omega) U' rfl X'
    refine ⟨t2, st1 t2 ?_, a2⟩
    have e9 : (v0.toList ++ r9).map (vf G) = (v0.map (vf G)).toList ++ r9.map (vf G) := by cases v0 <;> simp
    rw [e9] at a1
    exact a1
  · dsimp only [Pt.U, Pt.locs, Pt.cells, Pt.slots] at X' b1 b2 c4 c6 c7 st1
    subst c4; subst c6; subst c7
    subst b3
    obtain ⟨t2, a1, a2⟩ := hx a rfl U'.heap (locs ++ L2) ls (k1 + (gS h2 - gS h)) (n1 + (gU h2 - gU h)) (r9.map (vf G)) (by rw [b1]; exact b6) (loc L2 c5) hls (by omega) (by omega) U' rfl X'
    exact ⟨t2, st1.trans a1, a2⟩
end CALLS
def i_cV (k' n t q : Nat) : gd_I := fun L st h => match st.drop n with
  | .ref a :: r => if gT h a = t ∧ r.length ≤ 8 then cl_ k' (.ref a :: (st.take n).reverse) q L r h else none
  | _ => none
def i_cVs (k' n q : Nat) : gd_I := fun L st h => match st.drop n with
  | .ref a :: r => if (gT h a = 23 ∧ a < 96) ∧ r.length ≤ 8 then cl_ k' (.ref a :: (st.take n).reverse) q L r h else none
  | _ => none
def i_cS (k' n q : Nat) : gd_I := fun L st h => if n ≤ st.length ∧ (st.drop n).length ≤ 8 then cl_ k' (st.take n).reverse q L (st.drop n) h else none
def slk : List (Nat × Nat) → Nat → Option Nat
  | [], _ => none
  | (t, k) :: r, x => if x = t then some k else slk r x
def i_cF (tk : List (Nat × Nat)) (n q : Nat) : gd_I := fun L st h => match st.drop n with
  | .ref a :: r => if r.length ≤ 8 then (match slk tk (gT h a) with
    | some k' => cl_ k' (.ref a :: (st.take n).reverse) q L r h
    | none => none) else none
  | _ => none
theorem sm_cV (k' n t q : Nat) : Sm (i_cV k' n t q) := by
  intro L st h r hr
  unfold i_cV at hr
  split at hr
  next => split at hr <;> cases hr <;> rfl
  next => cases hr
theorem sm_cVs (k' n q : Nat) : Sm (i_cVs k' n q) := by
  intro L st h r hr
  unfold i_cVs at hr
  split at hr
  next => split at hr <;> cases hr <;> rfl
  next => cases hr
theorem sm_cS (k' n q : Nat) : Sm (i_cS k' n q) := by
  intro L st h r hr
  unfold i_cS at hr
  split at hr <;> cases hr <;> rfl
theorem sm_cF (tk : List (Nat × Nat)) (n q : Nat) : Sm (i_cF tk n q) := by
  intro L st h r hr
  unfold i_cF at hr
  split at hr
  next =>
    split at hr
    next => split at hr <;> cases hr <;> rfl
    next => cases hr
  next => cases hr
theorem slk_mem : ∀ {tk : List (Nat × Nat)} {t k : Nat}, slk tk t = some k → (t, k) ∈ tk
  | [], t, k, h => by simp [slk] at h
  | (t', k') :: r, t, k, h => by
    simp only [slk] at h
    split at h
    next e => cases h; rw [e]; exact List.mem_cons_self
    next => exact List.mem_cons_of_mem _ (slk_mem h)
theorem gd_pop {st : List Value} {n : Nat} {v : Value} {r : List Value} (h : st.drop n = v :: r) : st = st.take n ++ v :: r ∧ (st.take n).length = n := by
  refine ⟨by rw [← h]; exact (List.take_append_drop n st).symm, ?_⟩
  rw [List.length_take]
  rcases Nat.lt_or_ge n st.length with z | z
  · omega
  · rw [List.drop_eq_nil_of_le z] at h; cases h
theorem gd_stk {G : gd_G} {st : List Value} {n a : Nat} {r : List Value} (h : st = st.take n ++ .ref a :: r) (h4 : 4 ≤ a) : st.map (vf G) = (((st.take n).reverse).map (vf G)).reverse ++ .ref (ad G a) :: r.map (vf G) := by
  rw [List.map_reverse, List.reverse_reverse, ← vf_hi G h4, ← List.map_cons, ← List.map_append, ← h]
theorem gd_stkS {G : gd_G} (st : List Value) (n : Nat) : st.map (vf G) = (((st.take n).reverse).map (vf G)).reverse ++ (st.drop n).map (vf G) := by
  rw [List.map_reverse, List.reverse_reverse, ← List.map_append, List.take_append_drop]
/-- the receiver's cell -/
theorem gd_recv {G : gd_G} {s : State} {h : gd_H} {H : Heap} {a t : Nat} {w : vw_C} (hK : KN G s) (hR : gd_R G h H) (ha : gT h a = t) (hc : gd_cl t = some w) : 4 ≤ a ∧ ∃ cell : Cell, H[ad G a]? = some cell ∧ cell.vm.isStatics = false ∧ s.vm.findClass w.1 = some cell.cls ∧ ∃ kB : Class, s.vm.classes[cell.cls]? = some kB := by
  have hno := gd_cl_no hc
  obtain ⟨cell, q1, q2, q3, -⟩ := (hR.2.2.2.2.2.2 a).1 w (by rw [ha]; exact hc)
  obtain ⟨hf, kC, hk, -⟩ := (hK.2.1 t w hc).2
  rw [ha] at q2
  exact ⟨gd_ge4 hK.1 hR (by rw [ha]; exact hno.2.2.1), cell, q1, by rw [q3]; rfl, by rw [q2]; exact hf, kC, by rw [q2]; exact hk⟩
/-- what a call asks of the tables, of the callee M' -/
def gd_ca (M M' : gd_M) (i n : Nat) : Prop := Cond.methodLink M.1.cls i M'.1 ∈ lw_all ∧ gd_cw M' ∧ Cond.initialized M'.1.cls ∈ lw_all ∧ (M'.1.cls ≠ "java/lang/invoke/MethodHandle" ∧ M'.1.cls ≠ "java/lang/invoke/VarHandle") ∧ (parseMethodDescriptor M'.1.desc).map (fun d => d.parameters.length) = some n ∧ M'.2.2.1 ≤ 40
theorem gd_len {desc : String} {n : Nat} (h : (parseMethodDescriptor desc).map (fun d => d.parameters.length) = some n) {l : List Value} (hl : l.length = n) : ∀ sig, parseMethodDescriptor desc = some sig → l.length = sig.parameters.length := fun sig hs => by
  rw [hs] at h
  exact hl.trans (Option.some.inj h).symm
theorem sd_cV {mt : Nat → gd_M} {M : gd_M} {pc q k' n t i : Nat} {w : vw_C} (hca : gd_ca M (mt k') i n) (hin : Cond.instanceMethod (mt k').1 ∈ lw_all) (hcl : gd_cl t = some w) (hse : Cond.selects w.1 (mt k').1 (mt k').1 ∈ lw_all) (hd : decode M.2.1 pc = .ok (.invokevirtual i, 3)) (hq : pc + 3 = q) : Sd mt M pc (i_cV k' n t q) := by
  subst hq
  refine ⟨sm_cV _ _ _ _, ?_⟩
  intro G l d C hC p e R s m args below meth c Q zf uf z0 u0 cx L st h r hr
  unfold i_cV at hr
  split at hr
  next a r9 ed =>
    split at hr
    next ha =>
      cases hr
      refine ⟨rfl, fun o h2 e9 => ?_⟩
      have hX := hC _ _ _ _ _ e9
      obtain ⟨m1, m2, -⟩ := id hX
      refine ⟨m1, m2, fun w1 w2 kv kx => fun H locs ls k1 n1 hR hl hls e1 e2 => ?_⟩
      obtain ⟨hx, hb, hml, hr, hown, hts, hK, -, -, -, -, hfr, hlo, hz, hu⟩ := cx
      obtain ⟨a1, a2, a3, a4, a5, a6⟩ := hca
      obtain ⟨p1, p2⟩ := gd_pop ed
      intro T hT X
      obtain ⟨r4, cell, r1, r2, r3, kB, r5⟩ := gd_recv hK hR ha.1 hcl
      refine gd_after (As := Value.ref (ad G a) :: ((st.take n).reverse).map (vf G)) m1 m2 rfl hl hls e1 e2 kv kx ?_
      have hK9 := gd_back (R := R) (p := p) (e := e) (below := below) (s := s) (args := args) (len := 3) hX hfr hlo a6 a2 a3 hts
      unfold gd_cw at a2
      split at a2
      next eh => exact vx_callV X hx (C := w.1) hown (hts _ a1) (hts _ hin) (hts _ hse) (hts _ a2) a4 hK9 (by rw [hT]; exact r1) r2 r3 (g := F0 m pc ls (st.map (vf G))) rfl (by show ls.size = _; rw [hls.1, hml]) (argsL := ((st.take n).reverse).map (vf G)) (rest := r9.map (vf G)) (gd_len a5 (by simpa using p2)) (gd_stk p1 r4) (by show 2 * 0 + _ ≤ 16; have := gd_sum8 hK.1 r9 8 ha.2; omega) (by rw [hb]; exact hd) (fun vm₁ hW₁ => ⟨by show k1 + _ ≤ _; omega, by show n1 + _ ≤ _; omega, by show _ = _; rw [List.map_cons, vf_hi G r4], by show gd_R G h T.heap; rw [hT]; exact hR, KN.moved (U := T.setVm vm₁) hW₁ hK⟩)
      next eh => exact vx_callVX X hx (C := w.1) hown (hts _ a1) (hts _ hin) (hts _ hse) (hts _ a2) a4 hK9 (by rw [hT]; exact r1) r2 r3 (g := F0 m pc ls (st.map (vf G))) rfl (by show ls.size = _; rw [hls.1, hml]) (argsL := ((st.take n).reverse).map (vf G)) (rest := r9.map (vf G)) (gd_len a5 (by simpa using p2)) (gd_stk p1 r4) (by show 2 * 0 + _ ≤ 16; have := gd_sum8 hK.1 r9 8 ha.2; omega) (by rw [hb]; exact hd) (fun vm₁ hW₁ => ⟨by show k1 + _ ≤ _; omega, by show n1 + _ ≤ _; omega, by show _ = _; rw [List.map_cons, vf_hi G r4], by show gd_R G h T.heap; rw [hT]; exact hR, KN.moved (U := T.setVm vm₁) hW₁ hK⟩)
    next => cases hr
  next => cases hr
theorem sd_cVs {mt : Nat → gd_M} {M : gd_M} {pc q k' n i : Nat} (hca : gd_ca M (mt k') i n) (hin : Cond.instanceMethod (mt k').1 ∈ lw_all) (hse : Cond.selects "java/lang/String" (mt k').1 (mt k').1 ∈ lw_all) (hd : decode M.2.1 pc = .ok (.invokevirtual i, 3)) (hq : pc + 3 = q) : Sd mt M pc (i_cVs k' n q) := by
  subst hq
  refine ⟨sm_cVs _ _ _, ?_⟩
  intro G l d C hC p e R s m args below meth c Q zf uf z0 u0 cx L st h r hr
  unfold i_cVs at hr
  split at hr
  next a r9 ed =>
    split at hr
    next ha =>
      cases hr
      refine ⟨rfl, fun o h2 e9 => ?_⟩
      have hX := hC _ _ _ _ _ e9
      obtain ⟨m1, m2, -⟩ := id hX
      refine ⟨m1, m2, fun w1 w2 kv kx => fun H locs ls k1 n1 hR hl hls e1 e2 => ?_⟩
      obtain ⟨hx, hb, hml, hr, hown, hts, hK, -, -, -, -, hfr, hlo, hz, hu⟩ := cx
      obtain ⟨a1, a2, a3, a4, a5, a6⟩ := hca
      obtain ⟨p1, p2⟩ := gd_pop ed
      intro T hT X
      obtain ⟨-, ⟨cell, r1, r2, r3, -⟩, -⟩ := hK.2.2.2.2.1 a ha.1.2 ((hR.2.2.2.2.1 a ha.1.2).symm.trans ha.1.1)
      have r4 : 4 ≤ a := gd_ge4 hK.1 hR (by rw [ha.1.1]; decide)
      have r1 : H[ad G a]? = some cell := by rw [ad_lo G ha.1.2, hR.1 _ (Array.getElem?_eq_some_iff.mp r1).1]; exact r1
      refine gd_after (As := Value.ref (ad G a) :: ((st.take n).reverse).map (vf G)) m1 m2 rfl hl hls e1 e2 kv kx ?_
      have hK9 := gd_back (R := R) (p := p) (e := e) (below := below) (s := s) (args := args) (len := 3) hX hfr hlo a6 a2 a3 hts
      unfold gd_cw at a2
      split at a2
      next eh => exact vx_callV X hx (C := "java/lang/String") hown (hts _ a1) (hts _ hin) (hts _ hse) (hts _ a2) a4 hK9 (by rw [hT]; exact r1) r2 r3 (g := F0 m pc ls (st.map (vf G))) rfl (by show ls.size = _; rw [hls.1, hml]) (argsL := ((st.take n).reverse).map (vf G)) (rest := r9.map (vf G)) (gd_len a5 (by simpa using p2)) (gd_stk p1 r4) (by show 2 * 0 + _ ≤ 16; have := gd_sum8 hK.1 r9 8 ha.2; omega) (by rw [hb]; exact hd) (fun vm₁ hW₁ => ⟨by show k1 + _ ≤ _; omega, by show n1 + _ ≤ _; omega, by show _ = _; rw [List.map_cons, vf_hi G r4], by show gd_R G h T.heap; rw [hT]; exact hR, KN.moved (U := T.setVm vm₁) hW₁ hK⟩)
      next eh => exact vx_callVX X hx (C := "java/lang/String") hown (hts _ a1) (hts _ hin) (hts _ hse) (hts _ a2) a4 hK9 (by rw [hT]; exact r1) r2 r3 (g := F0 m pc ls (st.map (vf G))) rfl (by show ls.size = _; rw [hls.1, hml]) (argsL := ((st.take n).reverse).map (vf G)) (rest := r9.map (vf G)) (gd_len a5 (by simpa using p2)) (gd_stk p1 r4) (by show 2 * 0 + _ ≤ 16; have := gd_sum8 hK.1 r9 8 ha.2; omega) (by rw [hb]; exact hd) (fun vm₁ hW₁ => ⟨by show k1 + _ ≤ _; omega, by show n1 + _ ≤ _; omega, by show _ = _; rw [List.map_cons, vf_hi G r4], by show gd_R G h T.heap; rw [hT]; exact hR, KN.moved (U := T.setVm vm₁) hW₁ hK⟩)
    next => cases hr
  next => cases hr
theorem sd_cI {mt : Nat → gd_M} {M : gd_M} {pc q k' n t i : Nat} {w : vw_C} (hca : gd_ca M (mt k') i n) (hnm : (mt k').1.name = "<init>") (hret : (mt k').2.2.2.1 = none) (hhh : (mt k').2.2.2.2 = []) (hin : Cond.instanceMethod (mt k').1 ∈ lw_all) (hcl : gd_cl t = some w) (hd : decode M.2.1 pc = .ok (.invokespecial i, 3)) (hq : pc + 3 = q) : Sd mt M pc (i_cV k' n t q) := by
  subst hq
  refine ⟨sm_cV _ _ _ _, ?_⟩
  intro G l d C hC p e R s m args below meth c Q zf uf z0 u0 cx L st h r hr
  unfold i_cV at hr
  split at hr
  next a r9 ed =>
    split at hr
    next ha =>
      cases hr
      refine ⟨rfl, fun o h2 e9 => ?_⟩
      have hX := hC _ _ _ _ _ e9
      obtain ⟨m1, m2, -⟩ := id hX
      refine ⟨m1, m2, fun w1 w2 kv kx => fun H locs ls k1 n1 hR hl hls e1 e2 => ?_⟩
      obtain ⟨hx, hb, hml, hr, hown, hts, hK, -, -, -, -, hfr, hlo, hz, hu⟩ := cx
      obtain ⟨a1, a2, a3, a4, a5, a6⟩ := hca
      obtain ⟨p1, p2⟩ := gd_pop ed
      intro T hT X
      obtain ⟨r4, cell, r1, r2, r3, kB, r5⟩ := gd_recv hK hR ha.1 hcl
      refine gd_after (As := Value.ref (ad G a) :: ((st.take n).reverse).map (vf G)) m1 m2 rfl hl hls e1 e2 kv kx ?_
      have hK9 := gd_back (R := R) (p := p) (e := e) (below := below) (s := s) (args := args) (len := 3) hX hfr hlo a6 a2 a3 hts
      unfold gd_cw at a2
      split at a2
      next eh => exact vx_callI X hx hown hnm (hts _ a1) (hts _ hin) (hts _ (by rw [hret] at a2; exact a2)) a4 hK9 (g := F0 m pc ls (st.map (vf G))) rfl (by show ls.size = _; rw [hls.1, hml]) (a := ad G a) (argsL := ((st.take n).reverse).map (vf G)) (rest := r9.map (vf G)) (gd_len a5 (by simpa using p2)) (gd_stk p1 r4) (by show 2 * 0 + _ ≤ 16; have := gd_sum8 hK.1 r9 8 ha.2; omega) (by rw [hb]; exact hd) (fun vm₁ hW₁ => ⟨by show k1 + _ ≤ _; omega, by show n1 + _ ≤ _; omega, by show _ = _; rw [List.map_cons, vf_hi G r4], by show gd_R G h T.heap; rw [hT]; exact hR, KN.moved (U := T.setVm vm₁) hW₁ hK⟩)
      next eh => exact absurd hhh eh
    next => cases hr
  next => cases hr
theorem sd_cIN {mt : Nat → gd_M} {M : gd_M} {pc q k' n t i : Nat} {w : vw_C} {host : String} (hnl : Cond.methodLinkNest M.1.cls i (mt k').1 host ∈ lw_tbl) (a2 : gd_cw (mt k')) (a3 : Cond.initialized (mt k').1.cls ∈ lw_all) (a4 : (mt k').1.cls ≠ "java/lang/invoke/MethodHandle" ∧ (mt k').1.cls ≠ "java/lang/invoke/VarHandle") (a5 : (parseMethodDescriptor (mt k').1.desc).map (fun d => d.parameters.length) = some n) (a6 : (mt k').2.2.1 ≤ 40) (hnm : (mt k').1.name = "<init>") (hret : (mt k').2.2.2.1 = none) (hhh : (mt k').2.2.2.2 = []) (hin : Cond.instanceMethod (mt k').1 ∈ lw_all) (hcl : gd_cl t = some w) (hd : decode M.2.1 pc = .ok (.invokespecial i, 3)) (hq : pc + 3 = q) : Sd mt M pc (i_cV k' n t q) := by
  subst hq
  refine ⟨sm_cV _ _ _ _, ?_⟩
  intro G l d C hC p e R s m args below meth c Q zf uf z0 u0 cx L st h r hr
  unfold i_cV at hr
  split at hr
  next a r9 ed =>
    split at hr
    next ha =>
      cases hr
      refine ⟨rfl, fun o h2 e9 => ?_⟩
      have hX := hC _ _ _ _ _ e9
      obtain ⟨m1, m2, -⟩ := id hX
      refine ⟨m1, m2, fun w1 w2 kv kx => fun H locs ls k1 n1 hR hl hls e1 e2 => ?_⟩
      obtain ⟨hx, hb, hml, hr, hown, hts, hK, -, -, -, -, hfr, hlo, hz, hu⟩ := cx
      obtain ⟨p1, p2⟩ := gd_pop ed
      intro T hT X
      obtain ⟨r4, cell, r1, r2, r3, kB, r5⟩ := gd_recv hK hR ha.1 hcl
      refine gd_after (As := Value.ref (ad G a) :: ((st.take n).reverse).map (vf G)) m1 m2 rfl hl hls e1 e2 kv kx ?_
      have hK9 := gd_back (R := R) (p := p) (e := e) (below := below) (s := s) (args := args) (len := 3) hX hfr hlo a6 a2 a3 hts
      unfold gd_cw at a2
      split at a2
      next eh => exact vx_callIN X hx hown hnm (hK.nest hnl rfl rfl args) (hts _ hin) (hts _ (by rw [hret] at a2; exact a2)) a4 hK9 (g := F0 m pc ls (st.map (vf G))) rfl (by show ls.size = _; rw [hls.1, hml]) (a := ad G a) (argsL := ((st.take n).reverse).map (vf G)) (rest := r9.map (vf G)) (gd_len a5 (by simpa using p2)) (gd_stk p1 r4) (by show 2 * 0 + _ ≤ 16; have := gd_sum8 hK.1 r9 8 ha.2; omega) (by rw [hb]; exact hd) (fun vm₁ hW₁ => ⟨by show k1 + _ ≤ _; omega, by show n1 + _ ≤ _; omega, by show _ = _; rw [List.map_cons, vf_hi G r4], by show gd_R G h T.heap; rw [hT]; exact hR, KN.moved (U := T.setVm vm₁) hW₁ hK⟩)
      next eh => exact absurd hhh eh
    next => cases hr
  next => cases hr
theorem sd_cS {mt : Nat → gd_M} {M : gd_M} {pc q k' n i : Nat} (hca : gd_ca M (mt k') i n) (hst : Cond.static (mt k').1 ∈ lw_all) (hd : decode M.2.1 pc = .ok (.invokestatic i, 3)) (hq : pc + 3 = q) : Sd mt M pc (i_cS k' n q) := by
  subst hq
  refine ⟨sm_cS _ _ _, ?_⟩
  intro G l d C hC p e R s m args below meth c Q zf uf z0 u0 cx L st h r hr
  unfold i_cS at hr
  split at hr
  next ha =>
    cases hr
    refine ⟨rfl, fun o h2 e9 => ?_⟩
    have hX := hC _ _ _ _ _ e9
    obtain ⟨m1, m2, -⟩ := id hX
    refine ⟨m1, m2, fun w1 w2 kv kx => fun H locs ls k1 n1 hR hl hls e1 e2 => ?_⟩
    obtain ⟨hx, hb, hml, hr, hown, hts, hK, -, -, -, -, hfr, hlo, hz, hu⟩ := cx
    obtain ⟨a1, a2, a3, a4, a5, a6⟩ := hca
    have p2 : (st.take n).length = n := by rw [List.length_take]; omega
    intro T hT X
    refine gd_after (As := ((st.take n).reverse).map (vf G)) m1 m2 rfl hl hls e1 e2 kv kx ?_
    have hK9 := gd_back (R := R) (p := p) (e := e) (below := below) (s := s) (args := args) (len := 3) hX hfr hlo a6 a2 a3 hts
    unfold gd_cw at a2
    split at a2
    next eh => exact vx_callS X hx hown (hts _ a1) (hts _ hst) (hts _ a3) (hts _ a2) a4 hK9 (g := F0 m pc ls (st.map (vf G))) rfl (by show ls.size = _; rw [hls.1, hml]) (argsL := ((st.take n).reverse).map (vf G)) (rest := (st.drop n).map (vf G)) (gd_len a5 (by simpa using p2)) (gd_stkS st n) (by show 2 * 0 + _ ≤ 16; have := gd_sum8 hK.1 (st.drop n) 8 ha.2; omega) (by rw [hb]; exact hd) (fun vm₁ hW₁ => ⟨by show k1 + _ ≤ _; omega, by show n1 + _ ≤ _; omega, rfl, by show gd_R G h T.heap; rw [hT]; exact hR, KN.moved (U := T.setVm vm₁) hW₁ hK⟩)
    next eh => exact vx_callSX X hx hown (hts _ a1) (hts _ hst) (hts _ a3) (hts _ a2) a4 hK9 (g := F0 m pc ls (st.map (vf G))) rfl (by show ls.size = _; rw [hls.1, hml]) (argsL := ((st.take n).reverse).map (vf G)) (rest := (st.drop n).map (vf G)) (gd_len a5 (by simpa using p2)) (gd_stkS st n) (by show 2 * 0 + _ ≤ 16; have := gd_sum8 hK.1 (st.drop n) 8 ha.2; omega) (by rw [hb]; exact hd) (fun vm₁ hW₁ => ⟨by show k1 + _ ≤ _; omega, by show n1 + _ ≤ _; omega, rfl, by show gd_R G h T.heap; rw [hT]; exact hR, KN.moved (U := T.setVm vm₁) hW₁ hK⟩)
  next => cases hr

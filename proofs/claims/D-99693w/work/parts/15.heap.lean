/-! ===== INSTRUCTIONS ON THE HEAP ===== -/
set_option maxRecDepth 100000
/-- a kind's class: its row, its words, its fields' types and names -/
def gd_cls (t : Nat) (q : vw_C) : Prop := gd_cl t = some q ∧ (∀ w ∈ u_ws q.1 q.2.1 q.2.2, w ∈ lw_all) ∧ (∀ k, k < q.2.2 → parseFieldDescriptor (q.2.1 k).2.2.1 = some (gd_ty t k)) ∧
  ∀ a, a < q.2.2 → ∀ b, b < q.2.2 → a ≠ b → (q.2.1 a).2.1 ≠ (q.2.1 b).2.1
theorem gd_cl_no {t : Nat} {q : vw_C} (h : gd_cl t = some q) : gd_ety t = none ∧ gd_fty t = none ∧ t ≠ 0 ∧ t ≠ 23 ∧ t ≠ 41 ∧ t ≠ 42 := by
  unfold gd_cl at h
  split at h <;> first | cases h; done | exact ⟨rfl, rfl, by decide, by decide, by decide, by decide⟩
theorem gd_ety_no {t : Nat} {ty : FieldType} (h : gd_ety t = some ty) : gd_cl t = none ∧ gd_fty t = none ∧ t ≠ 0 ∧ t ≠ 23 ∧ t ≠ 41 ∧ t ≠ 42 := by
  unfold gd_ety at h
  split at h <;> first | cases h; done | exact ⟨rfl, rfl, by decide, by decide, by decide, by decide⟩
/-- a step with the heap, the locals as they are -/
def HS (M : gd_M) (pc : Nat) (L st : List Value) (h : gd_H) (q : Nat) (st' : List Value) (h' : gd_H) : Prop :=
  ∀ (G : gd_G) (p : Program) (l : Launch) (e : Env) (R : Room) (s : State) (m : MethodId) (args : Array Value) (below : List Frame) (meth : Method) (c : Code) (Q : State → Prop) (d zf uf z0 u0 : Nat), Cx G l M d zf uf z0 u0 p R s m args meth c → gS h' ≤ zf → gU h' ≤ uf →
  ∀ (H : Heap) (locs : List Loc) (ls : Array Slot) (k n : Nat), gd_R G h H → (∀ q ∈ locs, g_b G ≤ q.base) → lvr G ls M.2.2.1 L → gS h = z0 + k → gU h = u0 + n →
    (∀ (H' : Heap) (locs' : List Loc) (k' n' : Nat), gd_R G h' H' → (∀ q ∈ locs', g_b G ≤ q.base) → gS h' = z0 + k' → gU h' = u0 + n' → W p l e R s m args below meth c H' locs' k' n' Q (F0 m q ls (st'.map (vf G)))) →
    W p l e R s m args below meth c H locs k n Q (F0 m pc ls (st.map (vf G)))
theorem Sd.hs {mt : Nat → gd_M} {M : gd_M} {pc : Nat} {ins : gd_I} (h : ∀ L st h r, ins L st h = some r → ∃ q st' h', r = .inl (q, L, st', h') ∧ gS h ≤ gS h' ∧ gU h ≤ gU h' ∧ HS M pc L st h q st' h') : Sd mt M pc ins := by
  refine ⟨fun L st hp r hr => by
    obtain ⟨q, st', h', rfl, b1, b2, -⟩ := h L st hp r hr
    exact ⟨b1, b2⟩, ?_⟩
  intro G l d C hC p e R s m args below meth c Q zf uf z0 u0 cx L st hp r hr
  obtain ⟨q, st', h', rfl, b1, b2, hs⟩ := h L st hp r hr
  exact ⟨b1, b2, fun a1 a2 k => fun H locs ls k1 n1 hR hl hls e1 e2 => hs G p l e R s m args below meth c Q d zf uf z0 u0 cx a1 a2 H locs ls k1 n1 hR hl hls e1 e2 (fun H' locs' k' n' hR' hl' e1' e2' => k H' locs' ls k' n' hR' hl' hls e1' e2')⟩
/-- a link of a field, or of a nest mate's -/
def gd_lk (own : String) (i : Nat) (f : String × String × String × Bool) : Prop := Cond.fieldLink own i f.1 f.2.1 f.2.2.1 ∈ lw_all ∨ ∃ host, Cond.fieldLinkNest own i f.1 f.2.1 f.2.2.1 host ∈ lw_tbl
theorem KN.nest {G : gd_G} {s : State} (h : KN G s) {w : Cond} (hw : w ∈ lw_tbl) (hx : gd_xw w = true) (ho : w.onTables = true) (A : Array Value) : w.before A s = true := va_Nw.use ho (h.2.2.2.2.2.2.2.2.2.2.1 w hw hx)
section HEAPW
variable {G : gd_G} {p : Program} {l : Launch} {e : Env} {R : Room} {s : State} {m : MethodId} {args : Array Value} {below : List Frame} {meth : Method} {c : Code} {H : Heap} {locs : List Loc} {cells slots : Nat} {Q : State → Prop}
variable {M : gd_M} {d zf uf z0 u0 pc : Nat} {ls : Array Slot} {rest : List Value} {h : gd_H} {a t k i : Nat} {q : vw_C}
theorem gd_getf (cx : Cx G l M d zf uf z0 u0 p R s m args meth c) (ck : gd_cls t q) (hk : k < q.2.2) (hlk : gd_lk M.1.cls i (q.2.1 k)) (hd : decode M.2.1 pc = .ok (.getfield i, 3)) (hR : gd_R G h H) (ha : gT h a = t)
    (kk : W p l e R s m args below meth c H locs cells slots Q (F0 m (pc + 3) ls (gd_v G (kdOf (gd_ty t k)) h a k :: rest))) : W p l e R s m args below meth c H locs cells slots Q (F0 m pc ls (vf G (.ref a) :: rest)) := by
  obtain ⟨hx, hb, hml, hr, hown, hts, hK, -⟩ := cx
  have hno := gd_cl_no ck.1
  have h4 : 4 ≤ a := gd_ge4 hK.1 hR (by rw [ha]; exact hno.2.2.1)
  rw [vf_hi G h4]
  have hat := (hR.2.2.2.2.2.2 a).1 q (by rw [ha]; exact ck.1)
  rw [ha] at hat
  obtain ⟨cell, q1, q2, q3, q4⟩ := hat
  obtain ⟨hS, hfc, kC, hkC, hkind⟩ := hK.2.1 t q ck.1
  obtain ⟨cf, kf, fi, f, hi, hsl⟩ := hS k hk
  have hst := (u_facts hfc hkC (u_lays hts ck.2.1 hk) hi).1
  rcases hlk with hl | ⟨host, hl⟩
  · refine W.getf hx hb hown (hts _ hl) hi hst q1 (by rw [q3]; exact fun h => by cases h) (v := gd_v G (kdOf (gd_ty t k)) h a k) ?_ rfl rfl hd kk
    rw [hsl]
    exact q4 k hk
  · refine va_Wgetf hx hb hown (hK.nest hl rfl rfl args) hi hst q1 (by rw [q3]; exact fun h => by cases h) (v := gd_v G (kdOf (gd_ty t k)) h a k) ?_ rfl rfl hd kk
    rw [hsl]
    exact q4 k hk
/-- a field written: any field that isn't final, or a final one of the class in its constructor -/
def gd_fin (M : gd_M) (f : String × String × String × Bool) : Prop := f.2.2.2 = false ∨ (f.2.2.2 = true ∧ M.1.name = "<init>" ∧ f.1 = M.1.cls)
theorem gd_putf (cx : Cx G l M d zf uf z0 u0 p R s m args meth c) (ck : gd_cls t q) (hk : k < q.2.2) (hlk : gd_lk M.1.cls i (q.2.1 k)) (hfin : gd_fin M (q.2.1 k)) (hd : decode M.2.1 pc = .ok (.putfield i, 3)) (hR : gd_R G h H) (ha : gT h a = t) {v : Value}
    (hn : narrow (gd_ty t k) v = v) (hf : fits (gd_ty t k) v = true)
    (kk : ∀ (H' : Heap) (j : Nat), t_OB (ad G a) (g_dC G t) q.2.2 (g_dI G t) H' (updV (fun k => gd_v G (kdOf (gd_ty t k)) h a k) k v) → H'.size = H.size → (∀ q, q ≠ ad G a → H'[q]? = H[q]?) → W p l e R s m args below meth c H' (locs ++ [⟨ad G a, j⟩]) cells slots Q (F0 m (pc + 3) ls rest)) :
    W p l e R s m args below meth c H locs cells slots Q (F0 m pc ls (v :: vf G (.ref a) :: rest)) := by
  obtain ⟨hx, hb, hml, hr, hown, hts, hK, -, -, hmn, -⟩ := cx
  have hno := gd_cl_no ck.1
  have h4 : 4 ≤ a := gd_ge4 hK.1 hR (by rw [ha]; exact hno.2.2.1)
  rw [vf_hi G h4]
  have hat := (hR.2.2.2.2.2.2 a).1 q (by rw [ha]; exact ck.1)
  rw [ha] at hat
  obtain ⟨cell, q1, q2, q3, q4⟩ := hat
  obtain ⟨hS, hfc, kC, hkC, hkind⟩ := hK.2.1 t q ck.1
  obtain ⟨cf, kf, fi, f, hi, hsl⟩ := hS k hk
  have hst := (u_facts hfc hkC (u_lays hts ck.2.1 hk) hi).1
  have hap : ∀ x y, x < q.2.2 → y < q.2.2 → x ≠ y → (g_dI G t) x ≠ (g_dI G t) y := by
    intro x y hx hy hne
    obtain ⟨_, _, _, fa, hia, ea⟩ := hS x hx
    obtain ⟨_, _, _, fb, hib, eb⟩ := hS y hy
    rw [← ea, ← eb]
    refine u_apart (u_lays hts ck.2.1 hx) (u_lays hts ck.2.1 hy) hia hib ?_
    rw [(State.fieldFound?_type hia (ck.2.2.1 x hx)).1, (State.fieldFound?_type hib (ck.2.2.1 y hy)).1]
    exact ck.2.2.2 x hx y hy hne
  have hft : f.type = gd_ty t k := (State.fieldFound?_type hi (ck.2.2.1 k hk)).2
  have hfit := u_fits hfc hkC hkind (u_lays hts ck.2.1 hk) hi (ck.2.2.1 k hk) hn hf
  have hcf : hasFlag f.accessFlags Acc.final = false ∨ (m.cls = cf ∧ meth.name = "<init>") := by
    have hlay := hts _ (ck.2.1 _ (u_in_lay hk))
    unfold u_lay at hlay
    rcases hfin with hf0 | ⟨hf1, hm, hdecl⟩
    · rw [if_neg (by rw [hf0]; decide)] at hlay
      exact Or.inl (u_store hfc hkC hkind hlay hi (ck.2.2.1 k hk) hn hf).1
    · rw [if_pos hf1] at hlay
      refine Or.inr ⟨?_, by rw [hmn]; exact hm⟩
      obtain ⟨_, _, c', _, _, _, -, -, hf', -, -, -, hown2, -⟩ := Cond.laysFinal_spec hlay
      have e1 : c' = cf := by have := hi.symm.trans hf'; simp at this; exact this.1.symm
      rw [hdecl] at hown2
      rw [← e1]; exact Option.some.inj (hown.symm.trans hown2)
  have hal : ad G a < H.size := (Array.getElem?_eq_some_iff.mp q1).1
  have fin : W p l e R s m args below meth c (H.setIfInBounds (ad G a) (cell.setSlot f.slot v)) (locs ++ [⟨ad G a, f.slot⟩]) cells slots Q (F0 m (pc + 3) ls rest) := by
    refine kk _ _ ⟨cell.setSlot f.slot v, ?_, q2, q3, ?_⟩ (by simp) ?_
    · simp [Array.getElem?_setIfInBounds, hal]
    · rw [hsl]; exact t_set q4 hap hk v
    · intro q hq
      simp [Array.getElem?_setIfInBounds, Ne.symm hq]
  rcases hlk with hl | ⟨host, hl⟩
  · exact W.putf hx hb hown (hts _ hl) hi hst hcf q1 (by rw [q3]; exact fun h => by cases h) (by rw [hsl]; exact k2_hasslot (q4 k hk)) (by rw [hft]; exact hn) (by rw [q2, q3]; exact hfit.2) rfl rfl hd fin
  · exact va_Wputf hx hb hown (hK.nest hl rfl rfl args) hi hst hcf q1 (by rw [q3]; exact fun h => by cases h) (by rw [hsl]; exact k2_hasslot (q4 k hk)) (by rw [hft]; exact hn) (by rw [q2, q3]; exact hfit.2) rfl rfl hd fin
theorem gd_locs (hl : ∀ q ∈ locs, g_b G ≤ q.base) {j : Nat} (ha : 96 ≤ a) : ∀ q ∈ locs ++ [(⟨ad G a, j⟩ : Loc)], g_b G ≤ q.base := by
  intro q hq
  rcases List.mem_append.mp hq with h | h
  · exact hl q h
  · rw [List.mem_singleton.mp h]
    exact ad_le G ha
end HEAPW
/-- an object's cell after one of its fields was written -/
theorem gd_at_put {G : gd_G} {h h' : gd_H} {H' : Heap} {a t k : Nat} {q : vw_C} {v : Value} (ck : gd_cls t q) (ha : gT h a = t) (eT : gT h' = gT h) (hOB : t_OB (ad G a) (g_dC G t) q.2.2 (g_dI G t) H' (updV (fun k => gd_v G (kdOf (gd_ty t k)) h a k) k v))
    (he : gd_v G (kdOf (gd_ty t k)) h' a k = v) (ho : ∀ j, j ≠ k → gI h' a j = gI h a j ∧ gJ h' a j = gJ h a j ∧ gR h' a j = gR h a j) : gd_at G h' H' a := by
  have hno := gd_cl_no ck.1
  refine ⟨fun q' e' => ?_, fun ty e' => ?_, fun ty e' => ?_⟩
  · rw [eT, ha] at e' ⊢
    cases ck.1.symm.trans e'
    refine hOB.to (fun j hj => ?_)
    unfold updV
    by_cases hjk : j = k
    · rw [if_pos hjk, hjk, he]
    · rw [if_neg hjk]
      obtain ⟨o1, o2, o3⟩ := ho j hjk
      unfold gd_v
      rw [o1, o2, o3]
  · rw [eT, ha, hno.1] at e'; cases e'
  · rw [eT, ha, hno.2.1] at e'; cases e'
def i_getI (t k q : Nat) : gd_I := fun L st h => match st with
  | .ref a :: r => if gT h a = t then nx q L (.int (gI h a k) :: r) h else none
  | _ => none
def i_getJ (t k q : Nat) : gd_I := fun L st h => match st with
  | .ref a :: r => if gT h a = t then nx q L (.long (gJ h a k) :: r) h else none
  | _ => none
def i_getR (t k q : Nat) : gd_I := fun L st h => match st with
  | .ref a :: r => if gT h a = t then nx q L (.ref (gR h a k) :: r) h else none
  | _ => none
theorem sd_getI {mt : Nat → gd_M} {M : gd_M} {pc q t k i : Nat} {w : vw_C} (ck : gd_cls t w) (hk : k < w.2.2) (hkd : kdOf (gd_ty t k) = 0) (hlk : gd_lk M.1.cls i (w.2.1 k)) (hd : decode M.2.1 pc = .ok (.getfield i, 3)) (hq : pc + 3 = q) : Sd mt M pc (i_getI t k q) := by
  subst hq
  exact Sd.hs fun L st h r hr => by
    unfold i_getI at hr
    split at hr
    next a r9 =>
      split at hr
      next ha => cases hr; exact ⟨_, _, _, rfl, Nat.le_refl _, Nat.le_refl _, fun G p l e R s m args below meth c Q d zf uf z0 u0 cx a1 a2 H locs ls k1 n1 hR hl hls e1 e2 kk => gd_getf cx ck hk hlk hd hR ha (by rw [hkd]; exact kk H locs k1 n1 hR hl e1 e2)⟩
      next => cases hr
    next => cases hr
theorem sd_getJ {mt : Nat → gd_M} {M : gd_M} {pc q t k i : Nat} {w : vw_C} (ck : gd_cls t w) (hk : k < w.2.2) (hkd : kdOf (gd_ty t k) = 1) (hlk : gd_lk M.1.cls i (w.2.1 k)) (hd : decode M.2.1 pc = .ok (.getfield i, 3)) (hq : pc + 3 = q) : Sd mt M pc (i_getJ t k q) := by
  subst hq
  exact Sd.hs fun L st h r hr => by
    unfold i_getJ at hr
    split at hr
    next a r9 =>
      split at hr
      next ha => cases hr; exact ⟨_, _, _, rfl, Nat.le_refl _, Nat.le_refl _, fun G p l e R s m args below meth c Q d zf uf z0 u0 cx a1 a2 H locs ls k1 n1 hR hl hls e1 e2 kk => gd_getf cx ck hk hlk hd hR ha (by rw [hkd]; exact kk H locs k1 n1 hR hl e1 e2)⟩
      next => cases hr
    next => cases hr
theorem sd_getR {mt : Nat → gd_M} {M : gd_M} {pc q t k i : Nat} {w : vw_C} (ck : gd_cls t w) (hk : k < w.2.2) (hkd : kdOf (gd_ty t k) = 2) (hlk : gd_lk M.1.cls i (w.2.1 k)) (hd : decode M.2.1 pc = .ok (.getfield i, 3)) (hq : pc + 3 = q) : Sd mt M pc (i_getR t k q) := by
  subst hq
  exact Sd.hs fun L st h r hr => by
    unfold i_getR at hr
    split at hr
    next a r9 =>
      split at hr
      next ha => cases hr; exact ⟨_, _, _, rfl, Nat.le_refl _, Nat.le_refl _, fun G p l e R s m args below meth c Q d zf uf z0 u0 cx a1 a2 H locs ls k1 n1 hR hl hls e1 e2 kk => gd_getf cx ck hk hlk hd hR ha (by rw [hkd]; exact kk H locs k1 n1 hR hl e1 e2)⟩
      next => cases hr
    next => cases hr
/-- a String constant's two fields -/
def i_getS0 (q : Nat) : gd_I := fun L st h => match st with
  | .ref a :: r => if gT h a = 23 ∧ a < 96 then nx q L (.ref (a + 1) :: r) h else none
  | _ => none
def i_getS1 (q : Nat) : gd_I := fun L st h => match st with
  | .ref a :: r => if gT h a = 23 ∧ a < 96 then nx q L (.int 0 :: r) h else none
  | _ => none
theorem sd_getS0 {mt : Nat → gd_M} {M : gd_M} {pc q : Nat} {i : Nat} (hlk : Cond.fieldLink M.1.cls i "java/lang/String" "value" "[B" ∈ lw_all) (hd : decode M.2.1 pc = .ok (.getfield i, 3)) (hq : pc + 3 = q) : Sd mt M pc (i_getS0 q) := by
  subst hq
  exact Sd.hs fun L st h r hr => by
    unfold i_getS0 at hr
    split at hr
    next a r9 =>
      split at hr
      next ha => cases hr; exact ⟨_, _, _, rfl, Nat.le_refl _, Nat.le_refl _, fun G p l e R s m args below meth c Q d zf uf z0 u0 cx a1 a2 H locs ls k1 n1 hR hl hls e1 e2 kk => by
        obtain ⟨hx, hb, hml, hr, hown, hts, hK, -⟩ := cx
        have h4 : 4 ≤ a := gd_ge4 hK.1 hR (by rw [ha.1]; decide)
        have hfk : g_fk G a = 23 := (hR.2.2.2.2.1 a ha.2).symm.trans ha.1
        have k5 := hK.2.2.2.2.1 a ha.2 hfk
        obtain ⟨cf, k9, fi, f, cell, w1, w2, w3, w4, w5, w6⟩ := k5.2.2.2
        have kk9 := kk H locs k1 n1 hR hl e1 e2
        rw [List.map_cons] at kk9 ⊢
        rw [show vf G (.ref (a + 1)) = Value.ref (g_fz G (a + 1)) by rw [vf_hi G (n := a + 1) (Nat.le_succ_of_le h4), ad_lo G k5.1]] at kk9
        rw [vf_hi G h4, ad_lo G ha.2]
        have hlt : g_fz G a < g_b G := (Array.getElem?_eq_some_iff.mp w3).1
        exact W.getf hx hb hown (hts _ hlk) w1 w2 (by rw [hR.1 _ hlt]; exact w3) w4 w5 rfl rfl hd kk9⟩
      next => cases hr
    next => cases hr
theorem sd_getS1 {mt : Nat → gd_M} {M : gd_M} {pc q : Nat} {i : Nat} (hlk : Cond.fieldLink M.1.cls i "java/lang/String" "coder" "B" ∈ lw_all) (hd : decode M.2.1 pc = .ok (.getfield i, 3)) (hq : pc + 3 = q) : Sd mt M pc (i_getS1 q) := by
  subst hq
  exact Sd.hs fun L st h r hr => by
    unfold i_getS1 at hr
    split at hr
    next a r9 =>
      split at hr
      next ha => cases hr; exact ⟨_, _, _, rfl, Nat.le_refl _, Nat.le_refl _, fun G p l e R s m args below meth c Q d zf uf z0 u0 cx a1 a2 H locs ls k1 n1 hR hl hls e1 e2 kk => by
        obtain ⟨hx, hb, hml, hr, hown, hts, hK, -⟩ := cx
        have h4 : 4 ≤ a := gd_ge4 hK.1 hR (by rw [ha.1]; decide)
        have hfk : g_fk G a = 23 := (hR.2.2.2.2.1 a ha.2).symm.trans ha.1
        have k5 := hK.2.2.2.2.1 a ha.2 hfk
        obtain ⟨cf, k9, fi, f, cell, w1, w2, w3, w4, w5, w6⟩ := k5.2.2.1
        have kk9 := kk H locs k1 n1 hR hl e1 e2
        rw [List.map_cons] at kk9 ⊢
        rw [vf_hi G h4, ad_lo G ha.2]
        have hlt : g_fz G a < g_b G := (Array.getElem?_eq_some_iff.mp w3).1
        exact W.getf hx hb hown (hts _ hlk) w1 w2 (by rw [hR.1 _ hlt]; exact w3) w4 w5 rfl rfl hd kk9⟩
      next => cases hr
    next => cases hr
theorem gd_nar2 {ty : FieldType} (h : kdOf ty = 2) {v : Value} (hv : v = .null ∨ ∃ a, v = .ref a) : narrow ty v = v ∧ fits ty v = true := by
  cases ty <;> first | (simp [kdOf] at h; done) | (rcases hv with rfl | ⟨a, rfl⟩ <;> exact ⟨rfl, rfl⟩)
def i_putI (t k q : Nat) : gd_I := fun L st h => match st with
  | .int x :: .ref a :: r => if gT h a = t then nx q L r (wI h (up1 (gI h) a k x)) else none
  | _ => none
def i_putC (t k q : Nat) : gd_I := fun L st h => match st with
  | .int x :: .ref a :: r => if gT h a = t ∧ (x.toUInt32.toUInt16.toUInt32.toInt32 = x ∧ (0 ≤ x ∧ x ≤ 65535)) then nx q L r (wI h (up1 (gI h) a k x)) else none
  | _ => none
def i_putJ (t k q : Nat) : gd_I := fun L st h => match st with
  | .long x :: .ref a :: r => if gT h a = t then nx q L r (wJ h (up1 (gJ h) a k x)) else none
  | _ => none
def i_putR (t k q : Nat) : gd_I := fun L st h => match st with
  | .ref x :: .ref a :: r => if gT h a = t then nx q L r (wR h (up1 (gR h) a k x)) else none
  | _ => none
theorem gd_putok {G : gd_G} {p : Program} {l : Launch} {e : Env} {R : Room} {s : State} {m : MethodId} {args : Array Value} {below : List Frame} {meth : Method} {c : Code} {H : Heap} {locs : List Loc} {Q : State → Prop}
    {M : gd_M} {d zf uf z0 u0 pc : Nat} {ls : Array Slot} {rest : List Value} {h h' : gd_H} {a t k i k1 n1 : Nat} {q : vw_C} {v : Value} (cx : Cx G l M d zf uf z0 u0 p R s m args meth c) (ck : gd_cls t q) (hk : k < q.2.2) (hlk : gd_lk M.1.cls i (q.2.1 k)) (hfin : gd_fin M (q.2.1 k)) (hd : decode M.2.1 pc = .ok (.putfield i, 3)) (hR : gd_R G h H) (hl : ∀ q ∈ locs, g_b G ≤ q.base) (ha : gT h a = t)
    (hn : narrow (gd_ty t k) v = v) (hf : fits (gd_ty t k) v = true) (eT : gT h' = gT h) (eL : gL h' = gL h) (eS : gS h' = gS h) (eU : gU h' = gU h)
    (o1 : ∀ b j, ¬ (b = a ∧ j = k) → gI h' b j = gI h b j ∧ gJ h' b j = gJ h b j ∧ gR h' b j = gR h b j) (he : gd_v G (kdOf (gd_ty t k)) h' a k = v) (e1 : gS h = z0 + k1) (e2 : gU h = u0 + n1)
    (kk : ∀ (H' : Heap) (locs' : List Loc) (k' n' : Nat), gd_R G h' H' → (∀ q ∈ locs', g_b G ≤ q.base) → gS h' = z0 + k' → gU h' = u0 + n' → W p l e R s m args below meth c H' locs' k' n' Q (F0 m (pc + 3) ls rest)) :
    W p l e R s m args below meth c H locs k1 n1 Q (F0 m pc ls (v :: vf G (.ref a) :: rest)) := by
  have hK := cx.2.2.2.2.2.2.1
  have hno := gd_cl_no ck.1
  have h96 : 96 ≤ a := gd_ge96 hK.1 hR (by rw [ha]; exact hno.2.2.1) (by rw [ha]; exact hno.2.2.2.1) (by rw [ha]; exact hno.2.2.2.2.1) (by rw [ha]; exact hno.2.2.2.2.2)
  refine gd_putf cx ck hk hlk hfin hd hR ha hn hf fun H' j hOB eZ eH => ?_
  refine kk H' _ k1 n1 (gd_R_upd hK.1 hR h96 eT eL eS ?_ ?_ ?_ eZ eH (gd_at_put ck ha eT hOB he ?_)) (gd_locs hl h96) (by rw [eS]; exact e1) (by rw [eU]; exact e2)
  · exact fun b hb => funext fun j => (o1 b j (fun z => hb z.1)).1
  · exact fun b hb => funext fun j => (o1 b j (fun z => hb z.1)).2.1
  · exact fun b hb => funext fun j => (o1 b j (fun z => hb z.1)).2.2
  · exact fun j hj => o1 a j (fun z => hj z.2)
theorem sd_putI {mt : Nat → gd_M} {M : gd_M} {pc q : Nat} {t k i : Nat} {w : vw_C} (ck : gd_cls t w) (hk : k < w.2.2) (hkd : gd_ty t k = .int) (hlk : gd_lk M.1.cls i (w.2.1 k)) (hfin : gd_fin M (w.2.1 k)) (hd : decode M.2.1 pc = .ok (.putfield i, 3)) (hq : pc + 3 = q) : Sd mt M pc (i_putI t k q) := by
  subst hq
  exact Sd.hs fun L st h r hr => by
    unfold i_putI at hr
    split at hr
    next x a r9 =>
      split at hr
      next ha => cases hr; exact ⟨_, _, _, rfl, Nat.le_refl _, Nat.le_refl _, fun G p l e R s m args below meth c Q d zf uf z0 u0 cx a1 a2 H locs ls k1 n1 hR hl hls e1 e2 kk => by
        refine gd_putok (h' := wI h (up1 (gI h) a k x)) cx ck hk hlk hfin hd hR hl ha (by rw [hkd]; rfl) (by rw [hkd]; rfl) rfl rfl rfl rfl (fun b j hbj => ?_) ?_ e1 e2 kk
        · exact ⟨if_neg hbj, rfl, rfl⟩
        · rw [hkd]; show Value.int (up1 (gI h) a k x a k) = _; rw [up1_eq]; rfl⟩
      next => cases hr
    next => cases hr
theorem sd_putC {mt : Nat → gd_M} {M : gd_M} {pc q : Nat} {t k i : Nat} {w : vw_C} (ck : gd_cls t w) (hk : k < w.2.2) (hkd : gd_ty t k = .char) (hlk : gd_lk M.1.cls i (w.2.1 k)) (hfin : gd_fin M (w.2.1 k)) (hd : decode M.2.1 pc = .ok (.putfield i, 3)) (hq : pc + 3 = q) : Sd mt M pc (i_putC t k q) := by
  subst hq
  exact Sd.hs fun L st h r hr => by
    unfold i_putC at hr
    split at hr
    next x a r9 =>
      split at hr
      next ha => cases hr; exact ⟨_, _, _, rfl, Nat.le_refl _, Nat.le_refl _, fun G p l e R s m args below meth c Q d zf uf z0 u0 cx a1 a2 H locs ls k1 n1 hR hl hls e1 e2 kk => by
        refine gd_putok (h' := wI h (up1 (gI h) a k x)) cx ck hk hlk hfin hd hR hl ha.1 (by rw [hkd]; show Value.int _ = Value.int x; rw [ha.2.1]) (by rw [hkd]; show (decide (0 ≤ x) && decide (x ≤ 65535)) = true; rw [decide_eq_true ha.2.2.1, decide_eq_true ha.2.2.2]; rfl) rfl rfl rfl rfl (fun b j hbj => ?_) ?_ e1 e2 kk
        · exact ⟨if_neg hbj, rfl, rfl⟩
        · rw [hkd]; show Value.int (up1 (gI h) a k x a k) = _; rw [up1_eq]; rfl⟩
      next => cases hr
    next => cases hr
theorem sd_putJ {mt : Nat → gd_M} {M : gd_M} {pc q : Nat} {t k i : Nat} {w : vw_C} (ck : gd_cls t w) (hk : k < w.2.2) (hkd : gd_ty t k = .long) (hlk : gd_lk M.1.cls i (w.2.1 k)) (hfin : gd_fin M (w.2.1 k)) (hd : decode M.2.1 pc = .ok (.putfield i, 3)) (hq : pc + 3 = q) : Sd mt M pc (i_putJ t k q) := by
  subst hq
  exact Sd.hs fun L st h r hr => by
    unfold i_putJ at hr
    split at hr
    next x a r9 =>
      split at hr
      next ha => cases hr; exact ⟨_, _, _, rfl, Nat.le_refl _, Nat.le_refl _, fun G p l e R s m args below meth c Q d zf uf z0 u0 cx a1 a2 H locs ls k1 n1 hR hl hls e1 e2 kk => by
        refine gd_putok (h' := wJ h (up1 (gJ h) a k x)) cx ck hk hlk hfin hd hR hl ha (by rw [hkd]; rfl) (by rw [hkd]; rfl) rfl rfl rfl rfl (fun b j hbj => ?_) ?_ e1 e2 kk
        · exact ⟨rfl, if_neg hbj, rfl⟩
        · rw [hkd]; show Value.long (up1 (gJ h) a k x a k) = _; rw [up1_eq]; rfl⟩
      next => cases hr
    next => cases hr
theorem sd_putR {mt : Nat → gd_M} {M : gd_M} {pc q : Nat} {t k i : Nat} {w : vw_C} (ck : gd_cls t w) (hk : k < w.2.2) (hkd : kdOf (gd_ty t k) = 2) (hlk : gd_lk M.1.cls i (w.2.1 k)) (hfin : gd_fin M (w.2.1 k)) (hd : decode M.2.1 pc = .ok (.putfield i, 3)) (hq : pc + 3 = q) : Sd mt M pc (i_putR t k q) := by
  subst hq
  exact Sd.hs fun L st h r hr => by
    unfold i_putR at hr
    split at hr
    next x a r9 =>
      split at hr
      next ha => cases hr; exact ⟨_, _, _, rfl, Nat.le_refl _, Nat.le_refl _, fun G p l e R s m args below meth c Q d zf uf z0 u0 cx a1 a2 H locs ls k1 n1 hR hl hls e1 e2 kk => by
        refine gd_putok (h' := wR h (up1 (gR h) a k x)) cx ck hk hlk hfin hd hR hl ha (gd_nar2 hkd (vf_isRef cx.2.2.2.2.2.2.1.1 x)).1 (gd_nar2 hkd (vf_isRef cx.2.2.2.2.2.2.1.1 x)).2 rfl rfl rfl rfl (fun b j hbj => ?_) ?_ e1 e2 kk
        · exact ⟨rfl, rfl, if_neg hbj⟩
        · rw [hkd]; show vf G (.ref (up1 (gR h) a k x a k)) = _; rw [up1_eq]⟩
      next => cases hr
    next => cases hr
/-- an array's cell, known by its kind -/
theorem gd_arr {G : gd_G} {s : State} {h : gd_H} {H : Heap} {a t : Nat} {ty : FieldType} (hK : KN G s) (hR : gd_R G h H) (ha : gT h a = t) (ht : gd_ety t = some ty) :
    96 ≤ a ∧ H[ad G a]? = some (arrV (g_dC G t) (gL h a) (fun j => gd_v G (kdOf ty) h a j)) ∧ s.isArrayOf (arrV (g_dC G t) (gL h a) (fun j => gd_v G (kdOf ty) h a j)) ty := by
  have hno := gd_ety_no ht
  refine ⟨gd_ge96 hK.1 hR (by rw [ha]; exact hno.2.2.1) (by rw [ha]; exact hno.2.2.2.1) (by rw [ha]; exact hno.2.2.2.2.1) (by rw [ha]; exact hno.2.2.2.2.2), ?_, (hK.2.2.1 t ty ht).1 _ _⟩
  have := (hR.2.2.2.2.2.2 a).2.1 ty (by rw [ha]; exact ht)
  rw [ha] at this
  exact this
theorem gd_at_arr {G : gd_G} {h h' : gd_H} {H' : Heap} {a t j : Nat} {ty : FieldType} {v : Value} (ha : gT h a = t) (ht : gd_ety t = some ty) (eT : gT h' = gT h) (eL : gL h' = gL h) (hc : H'[ad G a]? = some ((arrV (g_dC G t) (gL h a) (fun j => gd_v G (kdOf ty) h a j)).setSlot j v))
    (he : gd_v G (kdOf ty) h' a j = v) (ho : ∀ i, i ≠ j → gI h' a i = gI h a i ∧ gJ h' a i = gJ h a i ∧ gR h' a i = gR h a i) : gd_at G h' H' a := by
  have hno := gd_ety_no ht
  refine ⟨fun q' e' => ?_, fun ty' e' => ?_, fun ty' e' => ?_⟩
  · rw [eT, ha, hno.1] at e'; cases e'
  · rw [eT, ha] at e' ⊢
    cases ht.symm.trans e'
    rw [hc, arrV_store, eL]
    congr 2
    funext i
    unfold updV
    by_cases hij : i = j
    · rw [if_pos hij, hij, he]
    · rw [if_neg hij]
      obtain ⟨o1, o2, o3⟩ := ho i hij
      unfold gd_v
      rw [o1, o2, o3]
  · rw [eT, ha, hno.2.1] at e'; cases e'
theorem gd_idx {j : Int32} {n : Nat} (h : ¬ (j < 0 ∨ n ≤ j.toNatClampNeg)) : j.toNatClampNeg < n := Nat.lt_of_not_le fun z => h (Or.inr z)
def i_aldI (t q : Nat) : gd_I := fun L st h => match st with
  | .int j :: .ref a :: r => if gT h a = t ∧ ¬ (j < 0 ∨ gL h a ≤ j.toNatClampNeg) then nx q L (.int (gI h a j.toNatClampNeg) :: r) h else none
  | _ => none
def i_aldF (t q : Nat) : gd_I := fun L st h => match st with
  | .int j :: .ref a :: r => if gT h a = t ∧ (a < 96 ∧ ¬ (j < 0 ∨ gL h a ≤ j.toNatClampNeg)) then nx q L (.int (gI h a j.toNatClampNeg) :: r) h else none
  | _ => none
def i_aldJ (q : Nat) : gd_I := fun L st h => match st with
  | .int j :: .ref a :: r => if gT h a = 34 ∧ ¬ (j < 0 ∨ gL h a ≤ j.toNatClampNeg) then nx q L (.long (gJ h a j.toNatClampNeg) :: r) h else none
  | _ => none
def i_aldR (t q : Nat) : gd_I := fun L st h => match st with
  | .int j :: .ref a :: r => if gT h a = t ∧ ¬ (j < 0 ∨ gL h a ≤ j.toNatClampNeg) then nx q L (.ref (gR h a j.toNatClampNeg) :: r) h else none
  | _ => none
theorem sd_iald {mt : Nat → gd_M} {M : gd_M} {pc q : Nat} (hd : decode M.2.1 pc = .ok (.iaload, 1)) (hq : pc + 1 = q) : Sd mt M pc (i_aldI 31 q) := by
  subst hq
  exact Sd.hs fun L st h r hr => by
    unfold i_aldI at hr
    split at hr
    next j a r9 =>
      split at hr
      next ha => cases hr; exact ⟨_, _, _, rfl, Nat.le_refl _, Nat.le_refl _, fun G p l e R s m args below meth c Q d zf uf z0 u0 cx a1 a2 H locs ls k1 n1 hR hl hls e1 e2 kk => by
        obtain ⟨hx, hb, hml, hr, hown, hts, hK, -⟩ := cx
        obtain ⟨b1, b2, b3⟩ := gd_arr hK hR ha.1 (rfl : gd_ety 31 = some .int)
        have kk9 := kk H locs k1 n1 hR hl e1 e2
        rw [List.map_cons] at kk9
        rw [List.map_cons, List.map_cons, vf_hi G (n := a) (by omega)]
        refine W.iald hx hb b2 b3 (fun z => by cases z) (by rw [arrV_size]; exact ha.2) (v := gd_v G (kdOf .int) h a j.toNatClampNeg) (arrV_read _ _ (gd_idx ha.2)) rfl rfl hd kk9⟩
      next => cases hr
    next => cases hr
theorem sd_bald {mt : Nat → gd_M} {M : gd_M} {pc q : Nat} (hd : decode M.2.1 pc = .ok (.baload, 1)) (hq : pc + 1 = q) : Sd mt M pc (i_aldI 32 q) := by
  subst hq
  exact Sd.hs fun L st h r hr => by
    unfold i_aldI at hr
    split at hr
    next j a r9 =>
      split at hr
      next ha => cases hr; exact ⟨_, _, _, rfl, Nat.le_refl _, Nat.le_refl _, fun G p l e R s m args below meth c Q d zf uf z0 u0 cx a1 a2 H locs ls k1 n1 hR hl hls e1 e2 kk => by
        obtain ⟨hx, hb, hml, hr, hown, hts, hK, -⟩ := cx
        obtain ⟨b1, b2, b3⟩ := gd_arr hK hR ha.1 (rfl : gd_ety 32 = some .byte)
        have kk9 := kk H locs k1 n1 hR hl e1 e2
        rw [List.map_cons] at kk9
        rw [List.map_cons, List.map_cons, vf_hi G (n := a) (by omega)]
        refine W.bald hx hb b2 b3 (fun z => by cases z) (by rw [arrV_size]; exact ha.2) (v := gd_v G (kdOf .byte) h a j.toNatClampNeg) (arrV_read _ _ (gd_idx ha.2)) rfl rfl hd kk9⟩
      next => cases hr
    next => cases hr
theorem sd_zald {mt : Nat → gd_M} {M : gd_M} {pc q : Nat} (hd : decode M.2.1 pc = .ok (.baload, 1)) (hq : pc + 1 = q) : Sd mt M pc (i_aldI 33 q) := by
  subst hq
  exact Sd.hs fun L st h r hr => by
    unfold i_aldI at hr
    split at hr
    next j a r9 =>
      split at hr
      next ha => cases hr; exact ⟨_, _, _, rfl, Nat.le_refl _, Nat.le_refl _, fun G p l e R s m args below meth c Q d zf uf z0 u0 cx a1 a2 H locs ls k1 n1 hR hl hls e1 e2 kk => by
        obtain ⟨hx, hb, hml, hr, hown, hts, hK, -⟩ := cx
        obtain ⟨b1, b2, b3⟩ := gd_arr hK hR ha.1 (rfl : gd_ety 33 = some .boolean)
        have kk9 := kk H locs k1 n1 hR hl e1 e2
        rw [List.map_cons] at kk9
        rw [List.map_cons, List.map_cons, vf_hi G (n := a) (by omega)]
        refine W.zald hx hb b2 b3 (fun z => by cases z) (by rw [arrV_size]; exact ha.2) (v := gd_v G (kdOf .boolean) h a j.toNatClampNeg) (arrV_read _ _ (gd_idx ha.2)) rfl rfl hd kk9⟩
      next => cases hr
    next => cases hr
theorem sd_lald {mt : Nat → gd_M} {M : gd_M} {pc q : Nat} (hd : decode M.2.1 pc = .ok (.laload, 1)) (hq : pc + 1 = q) : Sd mt M pc (i_aldJ q) := by
  subst hq
  exact Sd.hs fun L st h r hr => by
    unfold i_aldJ at hr
    split at hr
    next j a r9 =>
      split at hr
      next ha => cases hr; exact ⟨_, _, _, rfl, Nat.le_refl _, Nat.le_refl _, fun G p l e R s m args below meth c Q d zf uf z0 u0 cx a1 a2 H locs ls k1 n1 hR hl hls e1 e2 kk => by
        obtain ⟨hx, hb, hml, hr, hown, hts, hK, -⟩ := cx
        obtain ⟨b1, b2, b3⟩ := gd_arr hK hR ha.1 (rfl : gd_ety 34 = some .long)
        have kk9 := kk H locs k1 n1 hR hl e1 e2
        rw [List.map_cons] at kk9
        rw [List.map_cons, List.map_cons, vf_hi G (n := a) (by omega)]
        refine W.lald hx hb b2 b3 (fun z => by cases z) (by rw [arrV_size]; exact ha.2) (v := gd_v G (kdOf .long) h a j.toNatClampNeg) (arrV_read _ _ (gd_idx ha.2)) rfl rfl hd kk9⟩
      next => cases hr
    next => cases hr
theorem sd_aald {mt : Nat → gd_M} {M : gd_M} {pc q : Nat} {t : Nat} {C : String} (ht9 : gd_ety t = some (.object C)) (hd : decode M.2.1 pc = .ok (.aaload, 1)) (hq : pc + 1 = q) : Sd mt M pc (i_aldR t q) := by
  subst hq
  exact Sd.hs fun L st h r hr => by
    unfold i_aldR at hr
    split at hr
    next j a r9 =>
      split at hr
      next ha => cases hr; exact ⟨_, _, _, rfl, Nat.le_refl _, Nat.le_refl _, fun G p l e R s m args below meth c Q d zf uf z0 u0 cx a1 a2 H locs ls k1 n1 hR hl hls e1 e2 kk => by
        obtain ⟨hx, hb, hml, hr, hown, hts, hK, -⟩ := cx
        obtain ⟨b1, b2, b3⟩ := gd_arr hK hR ha.1 ht9
        have kk9 := kk H locs k1 n1 hR hl e1 e2
        rw [List.map_cons] at kk9
        rw [List.map_cons, List.map_cons, vf_hi G (n := a) (by omega)]
        refine W.aald hx hb b2 b3 rfl (fun z => by cases z) (by rw [arrV_size]; exact ha.2) (v := gd_v G (kdOf (.object C)) h a j.toNatClampNeg) (arrV_read _ _ (gd_idx ha.2)) rfl rfl hd kk9⟩
      next => cases hr
    next => cases hr
theorem sd_ialdF {mt : Nat → gd_M} {M : gd_M} {pc q : Nat} (hd : decode M.2.1 pc = .ok (.iaload, 1)) (hq : pc + 1 = q) : Sd mt M pc (i_aldF 41 q) := by
  subst hq
  exact Sd.hs fun L st h r hr => by
    unfold i_aldF at hr
    split at hr
    next j a r9 =>
      split at hr
      next ha => cases hr; exact ⟨_, _, _, rfl, Nat.le_refl _, Nat.le_refl _, fun G p l e R s m args below meth c Q d zf uf z0 u0 cx a1 a2 H locs ls k1 n1 hR hl hls e1 e2 kk => by
        obtain ⟨hx, hb, hml, hr, hown, hts, hK, -⟩ := cx
        obtain ⟨cell, b1, b2, b3, b4⟩ := (hR.2.2.2.2.2.2 a).2.2 .int (by rw [ha.1]; rfl)
        have h4 : 4 ≤ a := gd_ge4 hK.1 hR (by rw [ha.1]; decide)
        have hlt : a < 96 := ha.2.1
        have hz : g_fz G a < g_b G := hK.1.2.1 a hlt (by rw [← hR.2.2.2.2.1 a hlt, ha.1]; decide)
        have b5 : s.isArrayOf cell .int := hK.2.2.2.1 a .int cell hlt (by rw [← hR.2.2.2.2.1 a hlt, ha.1]; rfl) (by rw [← hR.1 _ hz, ← ad_lo G hlt]; exact b1)
        have kk9 := kk H locs k1 n1 hR hl e1 e2
        rw [List.map_cons] at kk9
        rw [List.map_cons, List.map_cons, vf_hi G h4]
        refine W.iald hx hb b1 b5 b2 (fun z => ha.2.2 (z.imp id (fun w => Nat.le_trans b3.1 w))) (v := .int (gI h a j.toNatClampNeg)) (b4 _ (gd_idx ha.2.2)) rfl rfl hd kk9⟩
      next => cases hr
    next => cases hr
theorem sd_baldF {mt : Nat → gd_M} {M : gd_M} {pc q : Nat} (hd : decode M.2.1 pc = .ok (.baload, 1)) (hq : pc + 1 = q) : Sd mt M pc (i_aldF 42 q) := by
  subst hq
  exact Sd.hs fun L st h r hr => by
    unfold i_aldF at hr
    split at hr
    next j a r9 =>
      split at hr
      next ha => cases hr; exact ⟨_, _, _, rfl, Nat.le_refl _, Nat.le_refl _, fun G p l e R s m args below meth c Q d zf uf z0 u0 cx a1 a2 H locs ls k1 n1 hR hl hls e1 e2 kk => by
        obtain ⟨hx, hb, hml, hr, hown, hts, hK, -⟩ := cx
        obtain ⟨cell, b1, b2, b3, b4⟩ := (hR.2.2.2.2.2.2 a).2.2 .byte (by rw [ha.1]; rfl)
        have h4 : 4 ≤ a := gd_ge4 hK.1 hR (by rw [ha.1]; decide)
        have hlt : a < 96 := ha.2.1
        have hz : g_fz G a < g_b G := hK.1.2.1 a hlt (by rw [← hR.2.2.2.2.1 a hlt, ha.1]; decide)
        have b5 : s.isArrayOf cell .byte := hK.2.2.2.1 a .byte cell hlt (by rw [← hR.2.2.2.2.1 a hlt, ha.1]; rfl) (by rw [← hR.1 _ hz, ← ad_lo G hlt]; exact b1)
        have kk9 := kk H locs k1 n1 hR hl e1 e2
        rw [List.map_cons] at kk9
        rw [List.map_cons, List.map_cons, vf_hi G h4]
        refine W.bald hx hb b1 b5 b2 (fun z => ha.2.2 (z.imp id (fun w => Nat.le_trans b3.1 w))) (v := .int (gI h a j.toNatClampNeg)) (b4 _ (gd_idx ha.2.2)) rfl rfl hd kk9⟩
      next => cases hr
    next => cases hr
def i_astI (q : Nat) : gd_I := fun L st h => match st with
  | .int x :: .int j :: .ref a :: r => if gT h a = 31 ∧ ¬ (j < 0 ∨ gL h a ≤ j.toNatClampNeg) then nx q L r (wI h (up1 (gI h) a j.toNatClampNeg x)) else none
  | _ => none
def i_astB (q : Nat) : gd_I := fun L st h => match st with
  | .int x :: .int j :: .ref a :: r => if gT h a = 32 ∧ ¬ (j < 0 ∨ gL h a ≤ j.toNatClampNeg) then nx q L r (wI h (up1 (gI h) a j.toNatClampNeg x.toInt8.toInt32)) else none
  | _ => none
def i_astZ (q : Nat) : gd_I := fun L st h => match st with
  | .int x :: .int j :: .ref a :: r => if gT h a = 33 ∧ ¬ (j < 0 ∨ gL h a ≤ j.toNatClampNeg) then nx q L r (wI h (up1 (gI h) a j.toNatClampNeg (x &&& 1))) else none
  | _ => none
def i_astJ (q : Nat) : gd_I := fun L st h => match st with
  | .long x :: .int j :: .ref a :: r => if gT h a = 34 ∧ ¬ (j < 0 ∨ gL h a ≤ j.toNatClampNeg) then nx q L r (wJ h (up1 (gJ h) a j.toNatClampNeg x)) else none
  | _ => none
def i_astR (t : Nat) (ts : List Nat) (q : Nat) : gd_I := fun L st h => match st with
  | .ref x :: .int j :: .ref a :: r => if gT h a = t ∧ (gT h x ∈ ts ∧ ¬ (j < 0 ∨ gL h a ≤ j.toNatClampNeg)) then nx q L r (wR h (up1 (gR h) a j.toNatClampNeg x)) else none
  | _ => none
def i_astS (q : Nat) : gd_I := fun L st h => match st with
  | .ref x :: .int j :: .ref a :: r => if gT h a = 38 ∧ ((gT h x = 23 ∧ x < 96) ∧ ¬ (j < 0 ∨ gL h a ≤ j.toNatClampNeg)) then nx q L r (wR h (up1 (gR h) a j.toNatClampNeg x)) else none
  | _ => none
/-- behind a store into an array -/
theorem gd_astok {G : gd_G} {p : Program} {l : Launch} {e : Env} {R : Room} {s : State} {m : MethodId} {args : Array Value} {below : List Frame} {meth : Method} {c : Code} {H H' : Heap} {locs : List Loc} {Q : State → Prop}
    {z0 u0 : Nat} {g : JFrame} {h h' : gd_H} {a t j k1 n1 : Nat} {ty : FieldType} {v : Value} (hK : KN G s) (hR : gd_R G h H) (hl : ∀ q ∈ locs, g_b G ≤ q.base) (ha : gT h a = t) (ht : gd_ety t = some ty) (eT : gT h' = gT h) (eL : gL h' = gL h) (eS : gS h' = gS h) (eU : gU h' = gU h)
    (o1 : ∀ b i, ¬ (b = a ∧ i = j) → gI h' b i = gI h b i ∧ gJ h' b i = gJ h b i ∧ gR h' b i = gR h b i) (he : gd_v G (kdOf ty) h' a j = v) (e1 : gS h = z0 + k1) (e2 : gU h = u0 + n1)
    (c1 : H'[ad G a]? = some ((arrV (g_dC G t) (gL h a) (fun j => gd_v G (kdOf ty) h a j)).setSlot j v)) (c2 : H'.size = H.size) (c3 : ∀ q, q ≠ ad G a → H'[q]? = H[q]?)
    (kk : ∀ (H' : Heap) (locs' : List Loc) (k' n' : Nat), gd_R G h' H' → (∀ q ∈ locs', g_b G ≤ q.base) → gS h' = z0 + k' → gU h' = u0 + n' → W p l e R s m args below meth c H' locs' k' n' Q g) :
    W p l e R s m args below meth c H' (locs ++ [⟨ad G a, j⟩]) k1 n1 Q g := by
  obtain ⟨b1, b2, b3⟩ := gd_arr hK hR ha ht
  refine kk H' _ k1 n1 (gd_R_upd hK.1 hR b1 eT eL eS ?_ ?_ ?_ c2 c3 (gd_at_arr ha ht eT eL c1 he ?_)) (gd_locs hl b1) (by rw [eS]; exact e1) (by rw [eU]; exact e2)
  · exact fun b hb => funext fun i => (o1 b i (fun z => hb z.1)).1
  · exact fun b hb => funext fun i => (o1 b i (fun z => hb z.1)).2.1
  · exact fun b hb => funext fun i => (o1 b i (fun z => hb z.1)).2.2
  · exact fun i hi => o1 a i (fun z => hi z.2)
theorem sd_astI {mt : Nat → gd_M} {M : gd_M} {pc q : Nat} (hd : decode M.2.1 pc = .ok (.iastore, 1)) (hq : pc + 1 = q) : Sd mt M pc (i_astI q) := by
  subst hq
  exact Sd.hs fun L st h r hr => by
    unfold i_astI at hr
    split at hr
    next x j a r9 =>
      split at hr
      next ha => cases hr; exact ⟨_, _, _, rfl, Nat.le_refl _, Nat.le_refl _, fun G p l e R s m args below meth c Q d zf uf z0 u0 cx a1 a2 H locs ls k1 n1 hR hl hls e1 e2 kk => by
        obtain ⟨hx, hb, hml, hr, hown, hts, hK, -⟩ := cx
        obtain ⟨b1, b2, b3⟩ := gd_arr hK hR ha.1 (rfl : gd_ety 31 = some .int)
        rw [List.map_cons, List.map_cons, List.map_cons, vf_hi G (n := a) (by omega)]
        refine W.iast hx hb b2 b3 (fun z => by cases z) (by rw [arrV_size]; exact ha.2) rfl rfl hd fun H' c1 c2 c3 => ?_
        exact gd_astok (h' := wI h (up1 (gI h) a j.toNatClampNeg x)) hK hR hl ha.1 (rfl : gd_ety 31 = some .int) rfl rfl rfl rfl (fun b i hbi => ⟨if_neg hbi, rfl, rfl⟩) (congrArg Value.int (up1_eq _ _ _ _)) e1 e2 c1 c2 c3 kk⟩
      next => cases hr
    next => cases hr
theorem sd_astB {mt : Nat → gd_M} {M : gd_M} {pc q : Nat} (hd : decode M.2.1 pc = .ok (.bastore, 1)) (hq : pc + 1 = q) : Sd mt M pc (i_astB q) := by
  subst hq
  exact Sd.hs fun L st h r hr => by
    unfold i_astB at hr
    split at hr
    next x j a r9 =>
      split at hr
      next ha => cases hr; exact ⟨_, _, _, rfl, Nat.le_refl _, Nat.le_refl _, fun G p l e R s m args below meth c Q d zf uf z0 u0 cx a1 a2 H locs ls k1 n1 hR hl hls e1 e2 kk => by
        obtain ⟨hx, hb, hml, hr, hown, hts, hK, -⟩ := cx
        obtain ⟨b1, b2, b3⟩ := gd_arr hK hR ha.1 (rfl : gd_ety 32 = some .byte)
        rw [List.map_cons, List.map_cons, List.map_cons, vf_hi G (n := a) (by omega)]
        refine W.bast hx hb b2 b3 (fun z => by cases z) (by rw [arrV_size]; exact ha.2) rfl rfl hd fun H' c1 c2 c3 => ?_
        exact gd_astok (h' := wI h (up1 (gI h) a j.toNatClampNeg x.toInt8.toInt32)) hK hR hl ha.1 (rfl : gd_ety 32 = some .byte) rfl rfl rfl rfl (fun b i hbi => ⟨if_neg hbi, rfl, rfl⟩) (congrArg Value.int (up1_eq _ _ _ _)) e1 e2 c1 c2 c3 kk⟩
      next => cases hr
    next => cases hr
theorem sd_astZ {mt : Nat → gd_M} {M : gd_M} {pc q : Nat} (hd : decode M.2.1 pc = .ok (.bastore, 1)) (hq : pc + 1 = q) : Sd mt M pc (i_astZ q) := by
  subst hq
  exact Sd.hs fun L st h r hr => by
    unfold i_astZ at hr
    split at hr
    next x j a r9 =>
      split at hr
      next ha => cases hr; exact ⟨_, _, _, rfl, Nat.le_refl _, Nat.le_refl _, fun G p l e R s m args below meth c Q d zf uf z0 u0 cx a1 a2 H locs ls k1 n1 hR hl hls e1 e2 kk => by
        obtain ⟨hx, hb, hml, hr, hown, hts, hK, -⟩ := cx
        obtain ⟨b1, b2, b3⟩ := gd_arr hK hR ha.1 (rfl : gd_ety 33 = some .boolean)
        rw [List.map_cons, List.map_cons, List.map_cons, vf_hi G (n := a) (by omega)]
        refine W.zast hx hb b2 b3 (fun z => by cases z) (by rw [arrV_size]; exact ha.2) rfl rfl hd fun H' c1 c2 c3 => ?_
        exact gd_astok (h' := wI h (up1 (gI h) a j.toNatClampNeg (x &&& 1))) hK hR hl ha.1 (rfl : gd_ety 33 = some .boolean) rfl rfl rfl rfl (fun b i hbi => ⟨if_neg hbi, rfl, rfl⟩) (congrArg Value.int (up1_eq _ _ _ _)) e1 e2 c1 c2 c3 kk⟩
      next => cases hr
    next => cases hr
theorem sd_astJ {mt : Nat → gd_M} {M : gd_M} {pc q : Nat} (hd : decode M.2.1 pc = .ok (.lastore, 1)) (hq : pc + 1 = q) : Sd mt M pc (i_astJ q) := by
  subst hq
  exact Sd.hs fun L st h r hr => by
    unfold i_astJ at hr
    split at hr
    next x j a r9 =>
      split at hr
      next ha => cases hr; exact ⟨_, _, _, rfl, Nat.le_refl _, Nat.le_refl _, fun G p l e R s m args below meth c Q d zf uf z0 u0 cx a1 a2 H locs ls k1 n1 hR hl hls e1 e2 kk => by
        obtain ⟨hx, hb, hml, hr, hown, hts, hK, -⟩ := cx
        obtain ⟨b1, b2, b3⟩ := gd_arr hK hR ha.1 (rfl : gd_ety 34 = some .long)
        rw [List.map_cons, List.map_cons, List.map_cons, vf_hi G (n := a) (by omega)]
        refine W.last hx hb b2 b3 (fun z => by cases z) (by rw [arrV_size]; exact ha.2) rfl rfl hd fun H' c1 c2 c3 => ?_
        exact gd_astok (h' := wJ h (up1 (gJ h) a j.toNatClampNeg x)) hK hR hl ha.1 (rfl : gd_ety 34 = some .long) rfl rfl rfl rfl (fun b i hbi => ⟨rfl, if_neg hbi, rfl⟩) (congrArg Value.long (up1_eq _ _ _ _)) e1 e2 c1 c2 c3 kk⟩
      next => cases hr
    next => cases hr
theorem sd_astR {mt : Nat → gd_M} {M : gd_M} {pc q t : Nat} {ts : List Nat} {C : String} (ht9 : gd_ety t = some (.object C)) (hts9 : ∀ t' ∈ ts, ∃ r : vw_C, gd_cl t' = some r ∧ (r.1 = C ∨ Cond.castable r.1 C ∈ lw_tbl)) (hd : decode M.2.1 pc = .ok (.aastore, 1)) (hq : pc + 1 = q) : Sd mt M pc (i_astR t ts q) := by
  subst hq
  exact Sd.hs fun L st h r hr => by
    unfold i_astR at hr
    split at hr
    next x j a r9 =>
      split at hr
      next ha => cases hr; exact ⟨_, _, _, rfl, Nat.le_refl _, Nat.le_refl _, fun G p l e R s m args below meth c Q d zf uf z0 u0 cx a1 a2 H locs ls k1 n1 hR hl hls e1 e2 kk => by
        obtain ⟨hx, hb, hml, hr, hown, hts, hK, -⟩ := cx
        obtain ⟨b1, b2, b3⟩ := gd_arr hK hR ha.1 ht9
        obtain ⟨w, f1, f2⟩ := hts9 _ ha.2.1
        have hno := gd_cl_no f1
        have x4 : 4 ≤ x := gd_ge4 hK.1 hR hno.2.2.1
        obtain ⟨cv, q1, q2, q3, q4⟩ := (hR.2.2.2.2.2.2 x).1 w f1
        obtain ⟨hS, hfc, kC, hkC, hkind⟩ := hK.2.1 _ w f1
        obtain ⟨kA, comp, k1', k2', k3', k4'⟩ := (hK.2.2.1 t _ ht9).2
        obtain ⟨kE, hkE, -⟩ := Vm.findClass_spec k3'
        have hasg : s.vm.assignable cv.cls comp = true := by
          rcases f2 with f2 | f2
          · rw [f2] at hfc
            rw [q2, Option.some.inj (k3'.symm.trans hfc)]
            exact va_asg _ _
          · obtain ⟨c0, t1, g1, g2, g3⟩ := Cond.castable_spec (hK.nest f2 rfl rfl args)
            cases hfc.symm.trans g1
            cases k3'.symm.trans g2
            rw [q2]
            exact g3
        rw [List.map_cons, List.map_cons, List.map_cons, vf_hi G (n := a) (by omega), vf_hi G x4]
        refine W.aast hx hb b2 (fun q h => by cases h) (fun h => by cases h) k1' k2' rfl hkE ⟨fun z => ha.2.2 (Or.inl z), by rw [arrV_size]; exact gd_idx ha.2.2⟩ q1 (fun q h => by rw [q3] at h; cases h) (by rw [q2]; exact hkC) hasg rfl rfl hd fun H' c1 c2 c3 => ?_
        exact gd_astok (h' := wR h (up1 (gR h) a j.toNatClampNeg x)) hK hR hl ha.1 ht9 rfl rfl rfl rfl (fun b i hbi => ⟨rfl, rfl, if_neg hbi⟩) (by show vf G (.ref (up1 (gR h) a _ x a _)) = _; rw [up1_eq]; exact vf_hi G x4) e1 e2 c1 c2 c3 kk⟩
      next => cases hr
    next => cases hr
theorem sd_astS {mt : Nat → gd_M} {M : gd_M} {pc q : Nat} (hd : decode M.2.1 pc = .ok (.aastore, 1)) (hq : pc + 1 = q) : Sd mt M pc (i_astS q) := by
  subst hq
  exact Sd.hs fun L st h r hr => by
    unfold i_astS at hr
    split at hr
    next x j a r9 =>
      split at hr
      next ha => cases hr; exact ⟨_, _, _, rfl, Nat.le_refl _, Nat.le_refl _, fun G p l e R s m args below meth c Q d zf uf z0 u0 cx a1 a2 H locs ls k1 n1 hR hl hls e1 e2 kk => by
        obtain ⟨hx, hb, hml, hr, hown, hts, hK, -⟩ := cx
        obtain ⟨b1, b2, b3⟩ := gd_arr hK hR ha.1 (rfl : gd_ety 38 = some (.object RJ4))
        have x4 : 4 ≤ x := gd_ge4 hK.1 hR (by rw [ha.2.1.1]; decide)
        obtain ⟨-, ⟨cv, q1, q2, q3, -⟩, -⟩ := hK.2.2.2.2.1 x ha.2.1.2 ((hR.2.2.2.2.1 x ha.2.1.2).symm.trans ha.2.1.1)
        obtain ⟨kA, comp, k1', k2', k3', k4'⟩ := (hK.2.2.1 38 _ rfl).2
        obtain ⟨kE, hkE, -⟩ := Vm.findClass_spec k3'
        have hcc : comp = cv.cls := Option.some.inj (k3'.symm.trans q3)
        rw [List.map_cons, List.map_cons, List.map_cons, vf_hi G (n := a) (by omega), vf_hi G x4]
        have hlt : g_fz G x < g_b G := (Array.getElem?_eq_some_iff.mp q1).1
        refine W.aast hx hb b2 (fun q h => by cases h) (fun h => by cases h) k1' k2' rfl hkE ⟨fun z => ha.2.2 (Or.inl z), by rw [arrV_size]; exact gd_idx ha.2.2⟩ (v := ad G x) (by rw [ad_lo G ha.2.1.2, hR.1 _ hlt]; exact q1) (fun q h => by rw [h] at q2; cases q2) (kv := kE) (by rw [← hcc]; exact hkE) (by rw [hcc]; exact va_asg _ _) rfl rfl hd fun H' c1 c2 c3 => ?_
        exact gd_astok (h' := wR h (up1 (gR h) a j.toNatClampNeg x)) hK hR hl ha.1 (rfl : gd_ety 38 = some (.object RJ4)) rfl rfl rfl rfl (fun b i hbi => ⟨rfl, rfl, if_neg hbi⟩) (by show vf G (.ref (up1 (gR h) a _ x a _)) = _; rw [up1_eq]; exact vf_hi G x4) e1 e2 c1 c2 c3 kk⟩
      next => cases hr
    next => cases hr
def i_alen (t q : Nat) : gd_I := fun L st h => match st with
  | .ref a :: r => if gT h a = t then nx q L (.int (Int32.ofNat (gL h a)) :: r) h else none
  | _ => none
theorem sd_alen {mt : Nat → gd_M} {M : gd_M} {pc q t : Nat} {ty : FieldType} (ht9 : gd_ety t = some ty) (hd : decode M.2.1 pc = .ok (.arraylength, 1)) (hq : pc + 1 = q) : Sd mt M pc (i_alen t q) := by
  subst hq
  exact Sd.hs fun L st h r hr => by
    unfold i_alen at hr
    split at hr
    next a r9 =>
      split at hr
      next ha => cases hr; exact ⟨_, _, _, rfl, Nat.le_refl _, Nat.le_refl _, fun G p l e R s m args below meth c Q d zf uf z0 u0 cx a1 a2 H locs ls k1 n1 hR hl hls e1 e2 kk => by
        obtain ⟨hx, hb, hml, hr, hown, hts, hK, -⟩ := cx
        obtain ⟨b1, b2, b3⟩ := gd_arr hK hR ha ht9
        have kk9 := kk H locs k1 n1 hR hl e1 e2
        rw [List.map_cons] at kk9
        rw [List.map_cons, vf_hi G (n := a) (by omega)]
        exact W.alen hx hb b2 b3 (by rw [arrV_size]) rfl rfl hd kk9⟩
      next => cases hr
    next => cases hr
def i_alenF (t q : Nat) : gd_I := fun L st h => match st with
  | .ref a :: r => if gT h a = t ∧ a < 96 then nx q L (.int (Int32.ofNat (gL h a)) :: r) h else none
  | _ => none
theorem sd_alenF {mt : Nat → gd_M} {M : gd_M} {pc q t : Nat} {ty : FieldType} (ht9 : gd_fty t = some ty) (h0 : t ≠ 0) (hd : decode M.2.1 pc = .ok (.arraylength, 1)) (hq : pc + 1 = q) : Sd mt M pc (i_alenF t q) := by
  subst hq
  exact Sd.hs fun L st h r hr => by
    unfold i_alenF at hr
    split at hr
    next a r9 =>
      split at hr
      next ha => cases hr; exact ⟨_, _, _, rfl, Nat.le_refl _, Nat.le_refl _, fun G p l e R s m args below meth c Q d zf uf z0 u0 cx a1 a2 H locs ls k1 n1 hR hl hls e1 e2 kk => by
        obtain ⟨hx, hb, hml, hr, hown, hts, hK, -⟩ := cx
        obtain ⟨cell, b1, b2, b3, b4⟩ := (hR.2.2.2.2.2.2 a).2.2 ty (by rw [ha.1]; exact ht9)
        have h4 : 4 ≤ a := gd_ge4 hK.1 hR (by rw [ha.1]; exact h0)
        have hlt : a < 96 := ha.2
        have hz : g_fz G a < g_b G := hK.1.2.1 a hlt (by rw [← hR.2.2.2.2.1 a hlt, ha.1]; exact h0)
        have b5 : s.isArrayOf cell ty := hK.2.2.2.1 a ty cell hlt (by rw [← hR.2.2.2.2.1 a hlt, ha.1]; exact ht9) (by rw [← hR.1 _ hz, ← ad_lo G hlt]; exact b1)
        have kk9 := kk H locs k1 n1 hR hl e1 e2
        rw [List.map_cons] at kk9
        rw [List.map_cons, vf_hi G h4]
        exact W.alen hx hb b1 b5 b3.2 rfl rfl hd kk9⟩
      next => cases hr
    next => cases hr

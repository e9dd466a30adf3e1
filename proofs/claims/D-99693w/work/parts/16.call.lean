/-! ===== NEW CELLS, EXCEPTIONS, RETURNS, CALLS ===== -/
set_option maxRecDepth 100000
section MK0
variable {p : Program} {l : Launch} {e : Env} {R : Room} {s : State} {m : MethodId} {args : Array Value} {below : List Frame} {meth : Method} {c : Code} {H : Heap} {locs : List Loc} {cells slots : Nat} {Q : State → Prop} {ls : Array Slot} {rest : List Value}
set_option maxHeartbeats 1000000 in
/-- turned from the kit's vx_make0: the heap behind it told exactly -/
theorem gd_make0 {cc : ByteArray} {pc : Nat} (hexec : p.tables.exec = Jvm.exec) (hb : c.code = cc) (hl : l.stackTraces = false) {own cls : String} {names : List String} {ik ic : Nat} {A : Nat → Prop}
    (hown : s.vm.findClass own = some m.cls) (hcls : Bundle.fit cls = true) (hnames : ∀ n ∈ names, Bundle.fit n = true)
    (hk : (Cond.classLink own ik cls).before args s = true) (hini : (Cond.initialized cls).before args s = true) (hat : ∀ w ∈ vx_at0 own ic cls names, w.before args s = true)
    (hgood : ∀ w ∈ Cond.classLink own ik cls :: Cond.initialized cls :: vx_at0 own ic cls names, vx_ot w = true)
    (hU : vx_Zq Bundle.tN "UNASSIGNED_STACK" Bundle.steD A s H) (hN : vx_Zq Bundle.tN "SUPPRESSED_SENTINEL" Bundle.listD A s H) (hsize : ls.size = c.maxLocals)
    (d0 : decode cc pc = .ok (.new ik, 3)) (d3 : decode cc (pc + 3) = .ok (.dup, 1)) (d4 : decode cc (pc + 4) = .ok (.invokespecial ic, 3))
    (hRframes : names.length + 3 < R.frames) (hRlocals : (rest.map fun v => v.category).sum + (13 * (names.length + 1) + 42) ≤ R.locals) (hRcells : cells + 1 ≤ R.cells) (hRslots : slots + 6 ≤ R.slots)
    (kk : ∀ (H1 : Heap) (ce : Cell), H1[H.size]? = some ce → ce.vm = .none → s.vm.findClass cls = some ce.cls → H1.size = H.size + 1 → (∀ q, q < H.size → H1[q]? = H[q]?) → W p l e R s m args below meth c H1 locs (cells + 1) (slots + 6) Q (F0 m (pc + 7) ls (.ref H.size :: rest))) :
    W p l e R s m args below meth c H locs cells slots Q (F0 m pc ls rest) := by
  intro T hT X
  subst hT
  have htr : e.platform.stackTraces = false := (show e.platform.stackTraces = l.stackTraces by rw [X.admits.platform]).trans hl
  have Y := vx_rebase X (R' := { frames := R.frames, locals := R.locals, cells := 1, slots := 6 }) (Nat.le_refl _) (Nat.le_refl _) hRcells hRslots
  obtain ⟨s', hA'⟩ : ∃ z, z = (T.setVm s.vm).setFrames (.invoking m args :: below) := ⟨_, rfl⟩
  rw [← hA'] at Y
  have hvm : s'.vm = s.vm := by rw [hA']; rfl
  have hhp : s'.heap = T.heap := by rw [hA']; rfl
  have hW0 : s.WarmedH s'.vm := by rw [hvm]; exact State.WarmedH.refl s
  have hat' : ∀ w ∈ vx_at0 own ic cls names, w.before args s' = true := fun w hw => vx_ot_at hW0 hvm.symm (hgood w (List.mem_cons_of_mem _ (List.mem_cons_of_mem _ hw))) (hat w hw)
  have hk' : (Cond.classLink own ik cls).before args s' = true := vx_ot_at hW0 hvm.symm (hgood _ List.mem_cons_self) hk
  have hini' : (Cond.initialized cls).before args s' = true := vx_ot_at hW0 hvm.symm (hgood _ (List.mem_cons_of_mem _ List.mem_cons_self)) hini
  have hU' : vx_Zq Bundle.tN "UNASSIGNED_STACK" Bundle.steD A s' s'.heap := by rw [hhp]; exact vx_Zq.moved hW0.alike hU
  have hN' : vx_Zq Bundle.tN "SUPPRESSED_SENTINEL" Bundle.listD A s' s'.heap := by rw [hhp]; exact vx_Zq.moved hW0.alike hN
  have h : ∀ w ∈ Bundle.ownAtoms0 own ic cls names, w.before args s' = true := vx_own hat' (vx_isRefq hU'.1) (vx_isRefq hN'.1) hU'.2.word hN'.2.word
  have hown' : s'.vm.findClass own = some m.cls := by rw [hvm]; exact hown
  have hins : (Cond.instantiable cls 6).before args s' = true := h _ (by simp [Bundle.ownAtoms0])
  obtain ⟨vm₁, cX, kX, hfX, hkX, -, -, X₁, st1⟩ := Y.newCold hexec (own := own) (C := cls) (index := ik) (n := 6) hown' hk' hins hini'
    (g := F0 m pc ls rest) rfl (by rw [hb]; exact d0) (Nat.le_refl _) (Nat.le_refl _)
  generalize hT1 : (T.setVm vm₁).pushCell { cls := cX, slots := kX.instanceTypes.map defaultValue, vm := .none } = T1 at X₁ st1
  have hcat : (Value.ref T.heap.size).category = 1 := rfl
  have hcellA : T1.heap[T.heap.size]? = some (freshCell cX kX) := by rw [← hT1]; exact State.heap_pushCell_size _ _
  have d3' : decode c.code (pc + 3) = .ok (.dup, 1) := by rw [hb]; exact d3
  obtain ⟨V, ce, L, Z, hL, hlt, hcl9, hvm9, st⟩ := vx_ctorMade0 X₁ hexec htr (own := own) (cls := cls) (names := names) (ic := ic) hown' hcls hnames h (fun x hx => nomatch hx) hfX hkX hcellA (by rw [hhp]; exact Nat.le_refl _)
    (g := { method := m, pc := pc + 4, locals := ls, stack := .ref T.heap.size :: .ref T.heap.size :: rest, locked := none }) rfl hsize (rest := rest) rfl
    (by rw [hb]; exact d4) hRframes (by simp only [List.map_cons, List.sum_cons, hcat]; omega)
  have Z0 := Stand.forget (locs := []) Z (fun y hy => by rw [hL y hy, hhp]; exact Nat.le_refl _)
  obtain ⟨f1, f2⟩ := vx_frame Z0.same
  rw [hhp] at f1 f2
  have hcid : s.vm.findClass cls = some ce.cls := by
    rw [hcl9, ← hvm]
    exact hfX
  have hup : (V.setCell T.heap.size ce).heap.size ≤ T.heap.size + 1 := by
    have h9 := Z0.same.2.2.1
    rw [hhp] at h9
    exact h9
  have hh : (V.setCell T.heap.size ce).heap[T.heap.size]? = some ce := heapAt_setCell_self (s := V) ce hlt
  subst hA'
  have X5 := vx_back9 X Y Z0
  have X6 : Stand p l e R s m args below meth c (V.setCell T.heap.size ce) locs (cells + 1) (slots + 6) := { X5 with same := X5.same.mono (by omega) (by omega) }
  have hlo : T.heap.size < (V.setCell T.heap.size ce).heap.size := (Array.getElem?_eq_some_iff.mp hh).1
  obtain ⟨t, a1, b1⟩ := kk (V.setCell T.heap.size ce).heap ce hh hvm9 hcid (by omega) (fun q hq => f2 q hq (fun z hz => nomatch hz)) _ rfl X6
  refine ⟨t, st1 _ ?_, b1⟩
  show Steps p.tables e below (T1.setTop { method := m, pc := pc + 3, locals := ls, stack := .ref T.heap.size :: rest, locked := none }) _
  jvm_step X₁.here [X₁.here.top, hexec, d3', Value.category]
  exact st _ a1
end MK0
def gd_okty : FieldType → Bool
  | .float => false | .double => false | _ => true
theorem gd_def {G : gd_G} (Z : gd_Z G) (h : gd_H) (t n s k : Nat) {ty : FieldType} (ho : gd_okty ty = true) : defaultValue ty = gd_v G (kdOf ty) (nw h t n s) (gS h) k := by
  have a1 : gI (nw h t n s) (gS h) k = 0 := by rw [gI_nw, if_pos rfl]
  have a2 : gJ (nw h t n s) (gS h) k = 0 := by rw [gJ_nw, if_pos rfl]
  have a3 : gR (nw h t n s) (gS h) k = 0 := by rw [gR_nw, if_pos rfl]
  unfold gd_v
  rw [a1, a2, a3, vf_0 Z]
  cases ty <;> first | rfl | (simp [gd_okty] at ho; done)
theorem gd_at_new {G : gd_G} {h : gd_H} {H' : Heap} {t n s : Nat} {q : vw_C} (hc : gd_cl t = some q) (hOB : t_OB (ad G (gS h)) (g_dC G t) q.2.2 (g_dI G t) H' (fun k => gd_v G (kdOf (gd_ty t k)) (nw h t n s) (gS h) k)) : gd_at G (nw h t n s) H' (gS h) := by
  have hno := gd_cl_no hc
  have eT : gT (nw h t n s) (gS h) = t := by rw [gT_nw, if_pos rfl]
  refine ⟨fun q' e' => ?_, fun ty' e' => ?_, fun ty' e' => ?_⟩
  · rw [eT] at e' ⊢
    cases hc.symm.trans e'
    exact hOB
  · rw [eT, hno.1] at e'; cases e'
  · rw [eT, hno.2.1] at e'; cases e'
theorem gd_at_newa {G : gd_G} {h : gd_H} {H' : Heap} {t n s : Nat} {ty : FieldType} (Z : gd_Z G) (ht : gd_ety t = some ty) (ho : gd_okty ty = true) (hc : H'[ad G (gS h)]? = some (arrV (g_dC G t) n (fun _ => defaultValue ty))) : gd_at G (nw h t n s) H' (gS h) := by
  have hno := gd_ety_no ht
  have eT : gT (nw h t n s) (gS h) = t := by rw [gT_nw, if_pos rfl]
  have eL : gL (nw h t n s) (gS h) = n := by rw [gL_nw, if_pos rfl]
  refine ⟨fun q' e' => ?_, fun ty' e' => ?_, fun ty' e' => ?_⟩
  · rw [eT, hno.1] at e'; cases e'
  · rw [eT] at e' ⊢
    cases ht.symm.trans e'
    rw [eL, hc]
    congr 2
    funext k
    exact gd_def Z h t n s k ho
  · rw [eT, hno.2.1] at e'; cases e'
def i_new (t n q : Nat) : gd_I := fun L st h => nx q L (.ref (gS h) :: st) (nw h t 0 n)
theorem sd_new {mt : Nat → gd_M} {M : gd_M} {pc q : Nat} {t n i : Nat} {w : vw_C} (ck : gd_cls t w) (hty : ∀ k, k < w.2.2 → gd_okty (gd_ty t k) = true) (hlk : Cond.classLink M.1.cls i w.1 ∈ lw_all) (hins : Cond.instantiable w.1 n ∈ lw_all) (hini : Cond.initialized w.1 ∈ lw_all) (hd : decode M.2.1 pc = .ok (.new i, 3)) (hq : pc + 3 = q) : Sd mt M pc (i_new t n q) := by
  subst hq
  exact Sd.hs fun L st h r hr => by
    cases hr
    exact ⟨_, _, _, rfl, Nat.le_succ _, Nat.le_add_right _ _, fun G p l e R s m args below meth c Q d zf uf z0 u0 cx a1 a2 H locs ls k1 n1 hR hl hls e1 e2 kk => by
      obtain ⟨hx, hb, hml, hr, hown, hts, hK, -, -, -, -, -, -, hz, hu⟩ := cx
      rw [gS_nw] at a1
      rw [gU_nw] at a2
      have hKn := hK.2.1 t w ck.1
      refine W.newcK hx hb hown (hts _ hlk) (hts _ hins) (hts _ hini) rfl hd (by omega) (by omega) hKn.2.1 rfl fun H' kC hkC b1 b2 b3 => ?_
      have hsz : H.size = ad G (gS h) := by rw [ad_hi G hR.2.1]; exact hR.2.2.1
      have hat : gd_at G (nw h t 0 n) H' (gS h) := by
        refine gd_at_new ck.1 ?_
        rw [← hsz]
        exact (u_born (gd_ty t) hts ck.2.1 hKn hkC b1 ck.2.2.1).to (fun k hk => gd_def hK.1 h t 0 n k (hty k hk))
      have hnew := (gd_R_new hK.1 hR b2 b3 hat).1
      have kk9 := kk H' locs (k1 + 1) (n1 + n) hnew hl (by rw [gS_nw]; omega) (by rw [gU_nw]; omega)
      rw [List.map_cons, vf_hi G (by have := hR.2.1; omega), ← hsz] at kk9
      exact kk9⟩
def i_newa (t q : Nat) : gd_I := fun L st h => match st with
  | .int n :: r => if ¬ n < 0 ∧ n.toNatClampNeg ≤ 65536 then nx q L (.ref (gS h) :: r) (nw h t n.toNatClampNeg n.toNatClampNeg) else none
  | _ => none
theorem sd_newa {mt : Nat → gd_M} {M : gd_M} {pc q : Nat} {t : Nat} {at9 : ArrayType} (ht9 : gd_ety t = some (newarray.typeOf at9)) (ho : gd_okty (newarray.typeOf at9) = true) (hcb : componentBytes (newarray.typeOf at9) ≤ 8) (hra : ∀ G s, KN G s → s.vm.findClass ("[" ++ (newarray.typeOf at9).toString) = some (g_dC G t)) (hw : Cond.arrayClass (newarray.typeOf at9) ∈ lw_all) (hd : decode M.2.1 pc = .ok (.newarray at9, 2)) (hq : pc + 2 = q) : Sd mt M pc (i_newa t q) := by
  subst hq
  exact Sd.hs fun L st h r hr => by
    unfold i_newa at hr
    split at hr
    next n r9 =>
      split at hr
      next hn => cases hr; exact ⟨_, _, _, rfl, Nat.le_succ _, Nat.le_add_right _ _, fun G p l e R s m args below meth c Q d zf uf z0 u0 cx a1 a2 H locs ls k1 n1 hR hl hls e1 e2 kk => by
        obtain ⟨hx, hb, hml, hr, hown, hts, hK, -, -, -, -, -, -, hz, hu⟩ := cx
        rw [gS_nw] at a1
        rw [gU_nw] at a2
        rw [List.map_cons]
        refine W.newa hx hb (hts _ hw) rfl hd rfl hn.1 ?_ (by omega) (by omega) fun cA kA comp h1 h2 h3 => ?_
        · exact Nat.le_trans (Nat.mul_le_mul hn.2 hcb) (by decide)
        · have hcA : cA = g_dC G t := Option.some.inj (h1.symm.trans (hra G s hK))
          subst hcA
          have hsz : H.size = ad G (gS h) := by rw [ad_hi G hR.2.1]; exact hR.2.2.1
          rw [arrV_new]
          have hat : gd_at G (nw h t n.toNatClampNeg n.toNatClampNeg) (H.push (arrV (g_dC G t) n.toNatClampNeg (fun _ => defaultValue (newarray.typeOf at9)))) (gS h) := by
            refine gd_at_newa hK.1 ht9 ho ?_
            rw [← hsz]
            simp
          have hnew := (gd_R_new hK.1 hR (by simp) (fun q hq => by rw [Array.getElem?_push, if_neg (Nat.ne_of_lt hq)]) hat).1
          have kk9 := kk _ locs (k1 + 1) (n1 + n.toNatClampNeg) hnew hl (by rw [gS_nw]; omega) (by rw [gU_nw]; omega)
          rw [List.map_cons, vf_hi G (by have := hR.2.1; omega), ← hsz] at kk9
          exact kk9⟩
      next => cases hr
    next => cases hr
theorem sd_anewa {mt : Nat → gd_M} {M : gd_M} {pc q : Nat} {t i : Nat} {C : String} (ht9 : gd_ety t = some (.object C)) (hlk : Cond.classLink M.1.cls i C ∈ lw_all) (hov : Cond.arrayOver (.object C) ∈ lw_tbl) (hd : decode M.2.1 pc = .ok (.anewarray i, 3)) (hq : pc + 3 = q) : Sd mt M pc (i_newa t q) := by
  subst hq
  exact Sd.hs fun L st h r hr => by
    unfold i_newa at hr
    split at hr
    next n r9 =>
      split at hr
      next hn => cases hr; exact ⟨_, _, _, rfl, Nat.le_succ _, Nat.le_add_right _ _, fun G p l e R s m args below meth c Q d zf uf z0 u0 cx a1 a2 H locs ls k1 n1 hR hl hls e1 e2 kk => by
        obtain ⟨hx, hb, hml, hr, hown, hts, hK, -, -, -, -, -, -, hz, hu⟩ := cx
        rw [gS_nw] at a1
        rw [gU_nw] at a2
        rw [List.map_cons]
        refine W.anew hx hb hown (hts _ hlk) (va_AO.use (A := args) (hK.2.2.2.2.2.2.2.2.2.2.1 _ hov rfl)) rfl hd rfl hn.1 (by omega) (by omega) (by omega) fun cA kA comp h1 h2 h3 h4 => ?_
        obtain ⟨kA', comp', -, -, -, hra⟩ := (hK.2.2.1 t _ ht9).2
        have hcA : cA = g_dC G t := Option.some.inj (h1.symm.trans hra)
        subst hcA
        have hsz : H.size = ad G (gS h) := by rw [ad_hi G hR.2.1]; exact hR.2.2.1
        rw [arrV_new]
        have hat : gd_at G (nw h t n.toNatClampNeg n.toNatClampNeg) (H.push (arrV (g_dC G t) n.toNatClampNeg (fun _ => Value.null))) (gS h) := by
          refine gd_at_newa hK.1 ht9 rfl ?_
          rw [← hsz]
          simp [defaultValue]
        have hnew := (gd_R_new hK.1 hR (by simp) (fun q hq => by rw [Array.getElem?_push, if_neg (Nat.ne_of_lt hq)]) hat).1
        have kk9 := kk _ locs (k1 + 1) (n1 + n.toNatClampNeg) hnew hl (by rw [gS_nw]; omega) (by rw [gU_nw]; omega)
        rw [List.map_cons, vf_hi G (by have := hR.2.1; omega), ← hsz] at kk9
        exact kk9⟩
      next => cases hr
    next => cases hr
theorem gd_sum8 {G : gd_G} (Z : gd_Z G) : ∀ (r : List Value) (n : Nat), r.length ≤ n → ((r.map (vf G)).map fun v => v.category).sum ≤ 2 * n := by
  intro r
  induction r with
  | nil => intro n _; simp
  | cons v r ih =>
    intro n hn
    simp only [List.length_cons] at hn
    have h1 := ih (n - 1) (by omega)
    simp only [List.map_cons, List.sum_cons]
    have h2 : (vf G v).category ≤ 2 := by
      rcases lv_cat (vf G v) with z | z <;> omega
    omega
/-- Object's constructor -/
def i_oin (q : Nat) : gd_I := fun L st h => match st with
  | .ref a :: r => if 4 ≤ a ∧ r.length ≤ 8 then nx q L r h else none
  | _ => none
theorem sd_oin {mt : Nat → gd_M} {M : gd_M} {pc q : Nat} {i : Nat} (hlk : Cond.methodLink M.1.cls i Lib.objectInit ∈ lw_all) (hin : Cond.instanceMethod Lib.objectInit ∈ lw_all) (hco : Cond.code Lib.objectInit ⟨#[0xb1]⟩ 1 none ∈ lw_all) (hd : decode M.2.1 pc = .ok (.invokespecial i, 3)) (hq : pc + 3 = q) : Sd mt M pc (i_oin q) := by
  subst hq
  exact Sd.hs fun L st h r hr => by
    unfold i_oin at hr
    split at hr
    next a r9 =>
      split at hr
      next ha => cases hr; exact ⟨_, _, _, rfl, Nat.le_refl _, Nat.le_refl _, fun G p l e R s m args below meth c Q d zf uf z0 u0 cx a1 a2 H locs ls k1 n1 hR hl hls e1 e2 kk => by
        obtain ⟨hx, hb, hml, hr, hown, hts, hK, -, -, -, -, hfr, hlo, hz, hu⟩ := cx
        rw [List.map_cons, vf_hi G ha.1]
        have h8 := gd_sum8 hK.1 r9 8 ha.2
        exact W.objInit hx hb hown (hts _ hlk) (hts _ hin) (hts _ hco) rfl (by show ls.size = _; rw [hls.1, hml]) rfl hd (by omega) (by show 2 * 0 + _ + 12 ≤ _; omega) (kk H locs k1 n1 hR hl e1 e2)⟩
      next => cases hr
    next => cases hr
/-- System.arraycopy between int arrays -/
def i_acp (q : Nat) : gd_I := fun L st h => match st with
  | [.int n, .int dp, .ref b, .int sp, .ref a] => if (gT h a = 31 ∧ gT h b = 31) ∧ ((¬ sp < 0 ∧ ¬ dp < 0) ∧ (¬ n < 0 ∧ (sp.toNatClampNeg + n.toNatClampNeg ≤ gL h a ∧ dp.toNatClampNeg + n.toNatClampNeg ≤ gL h b))) then
      nx q L [] (wI h (cpy (gI h) a sp.toNatClampNeg b dp.toNatClampNeg n.toNatClampNeg)) else none
  | _ => none
theorem sd_acp {mt : Nat → gd_M} {M : gd_M} {pc q : Nat} {i : Nat} (hlk : Cond.methodLink M.1.cls i arraycopyName ∈ lw_all) (hna : Cond.native arraycopyName ∈ lw_all) (hst : Cond.static arraycopyName ∈ lw_all) (hini : Cond.initialized "java/lang/System" ∈ lw_all) (hd : decode M.2.1 pc = .ok (.invokestatic i, 3)) (hq : pc + 3 = q) : Sd mt M pc (i_acp q) := by
  subst hq
  exact Sd.hs fun L st h r hr => by
    unfold i_acp at hr
    split at hr
    next n dp b sp a =>
      split at hr
      next ha => cases hr; exact ⟨_, _, _, rfl, Nat.le_refl _, Nat.le_refl _, fun G p l e R s m args below meth c Q d zf uf z0 u0 cx a1 a2 H locs ls k1 n1 hR hl hls e1 e2 kk => by
        obtain ⟨hx, hb, hml, hr, hown, hts, hK, -, -, -, -, hfr, hlo, hz, hu⟩ := cx
        obtain ⟨⟨t1, t2⟩, ⟨h1, h2⟩, h3, h4, h5⟩ := ha
        obtain ⟨x1, x2, -⟩ := gd_arr hK hR t1 (rfl : gd_ety 31 = some .int)
        obtain ⟨y1, y2, -⟩ := gd_arr hK hR t2 (rfl : gd_ety 31 = some .int)
        have nn : ∀ z : Int32, ¬ z < 0 → z.toInt = (z.toNatClampNeg : Int) := by
          intro z hz
          have hz0 : (0 : Int) ≤ z.toInt := by
            have := Int32.not_lt.mp hz
            simpa using Int32.le_iff_toInt_le.mp this
          show z.toInt = ((z.toInt.toNat : Nat) : Int)
          omega
        rw [List.map_cons, List.map_cons, List.map_cons, List.map_cons, List.map_cons, List.map_nil, vf_hi G (n := a) (by omega), vf_hi G (n := b) (by omega)]
        have nfw : nativeFrameWords "java/lang/System" "arraycopy" 5 ≤ 400 := by decide +kernel
        intro T hT X
        obtain ⟨-, k0, hk0, cm0, hkk0⟩ := (hK.2.2.1 31 .int rfl).1 (gL h a) (fun j => gd_v G 0 h a j)
        obtain ⟨-, k1', hk1, cm1, hkk1⟩ := (hK.2.2.1 31 .int rfl).1 (gL h b) (fun j => gd_v G 0 h b j)
        obtain ⟨vm', X', step⟩ := X.arraycopy hx hown (hts _ hlk) (hts _ hna) (hts _ hst) (hts _ hini) (src := ad G a) (dst := ad G b) (cs := arrV (g_dC G 31) (gL h a) (fun j => gd_v G 0 h a j)) (cd := arrV (g_dC G 31) (gL h b) (fun j => gd_v G 0 h b j)) (srcPos := sp) (destPos := dp) (n := n) (by rw [hT]; exact x2) (by rw [hT]; exact y2)
          (fun _ h => by cases h) (fun _ h => by cases h) (fun h => by cases h) (fun h => by cases h) hk0 hk1 hkk0 hkk1 (by simp [refKind]) h1 h2 h3
          (by rw [nn sp h1, nn n h3, arrV_size]; omega)
          (by rw [nn dp h2, nn n h3, arrV_size]; omega)
          (fun vm₁ _ i hi => by
            have e : (arrV (g_dC G 31) (gL h a) (fun j => gd_v G 0 h a j)).slots.getD (sp.toNatClampNeg + i) .null = .int (gI h a (sp.toNatClampNeg + i)) := by
              rw [Array.getD_eq_getD_getElem?, arrV_read _ _ (by omega)]
              rfl
            refine ⟨?_, ?_⟩
            · rw [e]; rfl
            · rw [e]; exact trivial)
          (g := F0 m pc ls [.int n, .int dp, .ref (ad G b), .int sp, .ref (ad G a)]) rfl (by show ls.size = _; rw [hls.1, hml]) (rest := []) rfl (by rw [hb]; exact hd) (by omega) (by show 2 * 0 + 0 + (nativeFrameWords "java/lang/System" "arraycopy" 5 + 11) ≤ _; omega)
        have e9 : copied (arrV (g_dC G 31) (gL h a) (fun j => gd_v G 0 h a j)) (arrV (g_dC G 31) (gL h b) (fun j => gd_v G 0 h b j)) sp dp n = arrV (g_dC G 31) (gL h b) (fun j => .int (va_cpy (gI h a) (gI h b) sp.toNatClampNeg dp.toNatClampNeg n.toNatClampNeg j)) := va_copied (fun z => .int z) (g_dC G 31) (g_dC G 31) (gI h a) (gI h b) h4
        rw [e9] at X' step
        have hlt : ad G b < H.size := (Array.getElem?_eq_some_iff.mp y2).1
        have hR' : gd_R G (wI h (cpy (gI h) a sp.toNatClampNeg b dp.toNatClampNeg n.toNatClampNeg)) (H.setIfInBounds (ad G b) (arrV (g_dC G 31) (gL h b) (fun j => .int (va_cpy (gI h a) (gI h b) sp.toNatClampNeg dp.toNatClampNeg n.toNatClampNeg j)))) := by
          refine gd_R_upd hK.1 hR y1 rfl rfl rfl (fun j hj => funext fun i => ?_) (fun _ _ => rfl) (fun _ _ => rfl) (by simp) (fun q hq => by simp [Array.getElem?_setIfInBounds, Ne.symm hq]) ?_
          · show (if j = b ∧ _ then _ else _) = _
            rw [if_neg (fun z => hj z.1)]
          · have hno := gd_ety_no (rfl : gd_ety 31 = some .int)
            refine ⟨fun q' e' => ?_, fun ty' e' => ?_, fun ty' e' => ?_⟩
            · rw [gT_wI, t2, hno.1] at e'; cases e'
            · rw [gT_wI, t2] at e' ⊢
              cases e'
              rw [gL_wI]
              have e8 : ∀ j, gd_v G (kdOf .int) (wI h (cpy (gI h) a sp.toNatClampNeg b dp.toNatClampNeg n.toNatClampNeg)) b j = .int (va_cpy (gI h a) (gI h b) sp.toNatClampNeg dp.toNatClampNeg n.toNatClampNeg j) := by
                intro j
                show Value.int (if b = b ∧ _ then _ else _) = Value.int (if _ then _ else _)
                by_cases hc : dp.toNatClampNeg ≤ j ∧ j < dp.toNatClampNeg + n.toNatClampNeg
                · rw [if_pos ⟨rfl, hc⟩, if_pos hc]
                · rw [if_neg (fun z => hc z.2), if_neg hc]
              simp only [e8]
              simp [Array.getElem?_setIfInBounds, hlt]
            · rw [gT_wI, t2, hno.2.1] at e'; cases e'
        obtain ⟨t, b1, b2⟩ := kk _ _ k1 n1 hR' (fun q hq => by
          rcases List.mem_append.mp hq with z | z
          · exact hl q z
          · obtain ⟨w, -, hw⟩ := List.mem_map.mp z
            rw [← hw]
            exact ad_le G y1) e1 e2 _ (show (State.setCell _ _ _).heap = _ by rw [← hT]; rfl) X'
        exact ⟨t, step t b1, b2⟩⟩
      next => cases hr
    next => cases hr
/-- 'new E()' of one of the two exceptions of the JDK: new, dup, invokespecial in one -/
def i_mk0 (t q : Nat) : gd_I := fun L st h => if st.length ≤ 8 then nx q L (.ref (gS h) :: st) (nw h t 0 6) else none
theorem sd_mk0 {mt : Nat → gd_M} {M : gd_M} {pc q : Nat} {t ik ic : Nat} {w : vw_C} {names : List String} (hc : gd_cl t = some w) (hN : w.2.2 = 0) (hcls : Bundle.fit w.1 = true) (hnames : ∀ n ∈ names, Bundle.fit n = true) (hlen : names.length ≤ 5) (hlk : Cond.classLink M.1.cls ik w.1 ∈ lw_all) (hini : Cond.initialized w.1 ∈ lw_all)
    (hat : ∀ x ∈ vx_at0 M.1.cls ic w.1 names, x ∈ lw_tbl ∧ (goodWord x = true ∨ (gd_xw x = true ∧ x.onTables = true))) (hgood : ∀ x ∈ Cond.classLink M.1.cls ik w.1 :: Cond.initialized w.1 :: vx_at0 M.1.cls ic w.1 names, vx_ot x = true)
    (d0 : decode M.2.1 pc = .ok (.new ik, 3)) (d3 : decode M.2.1 (pc + 3) = .ok (.dup, 1)) (d4 : decode M.2.1 (pc + 4) = .ok (.invokespecial ic, 3)) (hq : pc + 7 = q) : Sd mt M pc (i_mk0 t q) := by
  subst hq
  exact Sd.hs fun L st h r hr => by
    unfold i_mk0 at hr
    split at hr
    next hs => cases hr; exact ⟨_, _, _, rfl, Nat.le_succ _, Nat.le_add_right _ _, fun G p l e R s m args below meth c Q d zf uf z0 u0 cx a1 a2 H locs ls k1 n1 hR hl hls e1 e2 kk => by
      obtain ⟨hx, hb, hml, hr, hown, hts, hK, -, -, -, hst9, hfr, hlo, hz, hu⟩ := cx
      rw [gS_nw] at a1
      rw [gU_nw] at a2
      have h8 := gd_sum8 hK.1 st 8 hs
      have hq : ∀ q : Nat, q < (g_H G).size → ¬ gd_A G q → H[q]? = (g_H G)[q]? := fun q h1 h2 => hR.1 q h1
      refine gd_make0 (A := gd_A G) hx hb hst9 hown hcls hnames (hts _ hlk) (hts _ hini) (fun x hx9 => ?_) hgood (hK.2.2.2.2.2.2.2.2.1.2.kept hq) (hK.2.2.2.2.2.2.2.2.2.1.2.kept hq) (by show ls.size = _; rw [hls.1, hml]) d0 d3 d4 (by omega) (by omega) (by omega) (by omega) fun H1 ce b1 b2 b3 b4 b5 => ?_
      · obtain ⟨m1, m2 | m2⟩ := hat x hx9
        · exact hts _ (List.mem_filter.mpr ⟨m1, m2⟩)
        · exact hK.nest m1 m2.1 m2.2 args
      · have hsz : H.size = ad G (gS h) := by rw [ad_hi G hR.2.1]; exact hR.2.2.1
        have hcc : ce.cls = g_dC G t := Option.some.inj (b3.symm.trans (hK.2.1 t w hc).2.1)
        have hat9 : gd_at G (nw h t 0 6) H1 (gS h) := by
          refine gd_at_new hc ⟨ce, by rw [← hsz]; exact b1, hcc, b2, fun k hk => by rw [hN] at hk; omega⟩
        have hnew := (gd_R_new hK.1 hR b4 b5 hat9).1
        have kk9 := kk H1 locs (k1 + 1) (n1 + 6) hnew hl (by rw [gS_nw]; omega) (by rw [gU_nw]; omega)
        rw [List.map_cons, vf_hi G (by have := hR.2.1; omega), ← hsz] at kk9
        exact kk9⟩
    next => cases hr

set_option maxRecDepth 100000
/-! THE CLAIM OUT OF ONE WALK OF THE LAW'S BODY. Your part is whole_start (and what it stands on); all else here is the same for every law, but numbers. -/
def R_law : String := "GrowingDoorLaw"
def lw_P (b : Addr) (xs : List Int32) (args : Array Value) (s : State) : Prop := args = #[.ref b] ∧ s.IntsAt b xs ∧ xs.length ≤ 576 ∧ (Jvm.Cond.and given_1 narrow_1).before args s = true
def lw_Q (_ : Array Value) (s : State) (o : Outcome) (t : State) : Prop := o = .returned (some (.int 1)) ∧ Framed s o t [] 601024 7293034
def lw_Z (below : List Frame) (a : Array Value) (s : State) : State → Prop := fun t => ∃ o, t.status = .running ∧ Ended t below o ∧ lw_Q a s o t
/-- what holds at the law's entry: the machine, the code, the tables' words (any of lw_tbl by 'hts w (by decide +kernel)'), the script of L ints xs at the cell b, what the Statement gives of the start (any of its parts by flat_of_before) -/
def lw_At (p : Program) (s : State) (m : MethodId) (meth : Method) (c : Code) (b L : Nat) (xs : Nat → Int32) : Prop :=
  p.tables.exec = Jvm.exec ∧ c.code = code ∧ meth.sig.returnType = ret ∧ c.maxLocals = 8 ∧ s.vm.findClass R_law = some m.cls ∧ (∀ w ∈ lw_tbl, w.before #[Value.ref b] s = true) ∧ va_X b L xs s s.heap ∧ b < s.heap.size ∧ meth.locks = false ∧ (c.exceptionTable.toList = [] ∧ meth.name = "law") ∧ (Jvm.Cond.and given_1 narrow_1).before #[Value.ref b] s = true
/-- what is owed of the program: the law's run answers 1, in the claim's room -/
def gd_LAW : Prop := ∀ (L : Nat) (xs : Nat → Int32), L ≤ 576 → ∃ (d : Nat) (h' : gd_H), d ≤ 1300 ∧ run gd_P0 (d + 1) 12 [.ref 4] (gd_h0 L xs) = some (.inl (some (.int 1)), h') ∧ gS h' ≤ 601120 ∧ gU h' ≤ 7293034
theorem gd_framed {s t : State} {o : Outcome} {L : List Loc} {k n : Nat} (h : FrameEnd s o t L k n) (hl : ∀ q ∈ L, s.heap.size ≤ q.base) : Framed s o t [] k n := by
  obtain ⟨h1, h2, h3, h4, h5, h6, h7, h8⟩ := h
  refine ⟨h1, h2, h3, h4, h5, h6, h7, fun a c hc => ?_⟩
  obtain ⟨c', e1, e2, e3, e4⟩ := h8 a c hc
  have hlt : a < s.heap.size := (Array.getElem?_eq_some_iff.mp hc).1
  refine ⟨c', e1, e2, e3, fun i _ => e4 i (fun hm => ?_)⟩
  exact absurd hlt (Nat.not_lt.mpr (hl _ hm))
theorem whole_start (HL : gd_LAW) {p : Program} {e : Env} {s : State} {m : MethodId} {below : List Frame} {meth : Method} {c : Code} (l : Launch) (hflags : l.flags = flags0) {b L : Nat} {xs : Nat → Int32} (hL : L ≤ 576) (C0 : lw_At p s m meth c b L xs) : W p l e room_1 s m #[Value.ref b] below meth c s.heap [] 0 0 (lw_Z below #[Value.ref b] s) (entryFrame m ([Value.ref b] : List Value).toArray 8) := by
  obtain ⟨hx, hb, hr, hml, hown, ht, hX, hbl, hlocks, ⟨htab, hmn⟩, hn⟩ := C0
  have hst : l.stackTraces = false := by unfold Launch.stackTraces; rw [hflags]; decide +kernel
  obtain ⟨G, hK, hR, h4, hgb⟩ := gd_start ht hX hbl hn
  obtain ⟨d, h', hd, hrun, hS, hU⟩ := HL L xs hL
  rw [run, if_pos (by show _ ≤ 8; decide)] at hrun
  obtain ⟨n, hgo⟩ := lim_ex hrun
  have hsd := gd_sound (G := G) gd_P0_ok gd_plain hst d
  have ha : ∀ w ∈ lw_all, w.before #[Value.ref b] s = true := fun w h => ht w (lw_all_tbl h)
  have cx : Cx G l (gd_mt 12) d (96 + 601024) (0 + 7293034) 96 0 p room_1 s m #[Value.ref b] meth c := by
    refine ⟨hx, hb, hml, hr, hown, ha, hK, hlocks, htab, hmn, hst, ?_, ?_, rfl, rfl⟩
    · show d + 14 ≤ 8192; omega
    · show 72 * d + 536 ≤ 100000; omega
  have hQ : ∀ t, FQ G room_1 s #[Value.ref b] below (.inl (some (.int 1))) h' t → lw_Z below #[Value.ref b] s t := by
    intro t ht
    obtain ⟨o, t1, t2, ⟨⟨v, v1, v2, -⟩, L, f1, f2⟩ | ⟨q, rfl, E, ce, L, ⟨a, r, ea, -⟩, -⟩⟩ := ht
    · cases v1
      subst v2
      refine ⟨_, t1, t2, rfl, gd_framed f1 (fun q hq => ?_)⟩
      have := f2 q hq
      unfold gd_A at this
      rw [hgb] at this
      exact this
    · cases ea
  obtain ⟨-, -, V⟩ := gd_goN (e := e) (below := below) gd_P0_ok hsd cx hQ (by omega) (by omega) n 0 _ [] _ hgo
  rw [lg_entry_eq]
  have hlv := en_lvr (G := G) hK.1 (as := [.ref 4]) (n := 8) (by decide)
  have e4 : ([.ref 4] : List Value).map (vf G) = [.ref b] := by
    rw [List.map_cons, List.map_nil, vf_hi G (by omega), h4]
  rw [e4] at hlv
  exact V s.heap [] _ 0 0 hR (fun q hq => by cases hq) hlv rfl rfl
set_option maxHeartbeats 4000000 in
theorem lw_walk (HL : gd_LAW) (l : Launch) (hflags : l.flags = flags0) (b : Addr) (xs : List Int32) : MetFree l x (headSpec (Jvm.Cond.code x code maxLocals ret :: tables_1) room_1) (lw_P b xs) (fun _ _ _ _ _ => True) lw_Q := by
  refine MetFree.of_bodyS (code := code) (maxLocals := maxLocals) (ret := ret) (by decide) ?_ ?_
  · intro args s m h hn
    obtain ⟨meth, c, h1, h2, h3, h4, h5, h6, -, -⟩ := Cond.code_spec hn (atoms_spec (ws := Jvm.Cond.code x code maxLocals ret :: tables_1) h _ List.mem_cons_self)
    exact ⟨meth, c, h1, h2, h3, h4, h5, h6⟩
  · intro p e s m args below meth c s₁ B hml0 hP _
    obtain ⟨rfl, hx, hbd, hgv⟩ := hP
    obtain ⟨scr, harrAt, hlist, hof, hsmall⟩ := hx
    obtain ⟨hcb, hkn, -, -⟩ := State.arrayAt?_spec harrAt
    have hown : s.vm.findClass R_law = some m.cls := findClass_of_methodNamed B.named
    have hts0 : ∀ c ∈ (Jvm.Cond.code x code maxLocals ret :: tables_1), c.before #[Value.ref b] s = true := atoms_spec (ws := Jvm.Cond.code x code maxLocals ret :: tables_1) B.pre
    have hts : ∀ w ∈ lw_tbl, w.before #[Value.ref b] s = true := k2_hts_sels lw_privs (fun w hw => hts0 w (List.mem_cons_of_mem _ hw)) lw_privs_ok
    have hml : c.maxLocals = 8 := B.maxLocals_eq (hts0 _ List.mem_cons_self)
    have htab : c.exceptionTable.toList = [] ∧ meth.name = "law" := by
      obtain ⟨meth9, c9, g1, g2, -, -, -, -, g7, -⟩ := Cond.code_spec B.named (hts0 _ List.mem_cons_self)
      cases Option.some.inj (g1.symm.trans B.method)
      cases Option.some.inj (g2.symm.trans (Stand.of_body B).code)
      exact ⟨by rw [Array.isEmpty_iff.mp g7], (name_of_methodNamed B.named B.method).1⟩
    have X₀ : Stand p l e room_1 s m #[Value.ref b] below meth c s₁ [] 0 0 := Stand.of_body B
    have hh0 : s₁.heap = s.heap := by rw [B.state]; rfl
    have hsz : scr.slots.size = xs.length := by rw [← Array.length_toList, hlist, List.length_map]
    have hval : ∀ j : Nat, j < xs.length → scr.slots[j]? = some (.int (xs.getD j 0)) := fun j hj => by
      rw [← Array.getElem?_toList, hlist]
      simp [hj]
    have hbl : b < s.heap.size := (Array.getElem?_eq_some_iff.mp hcb).1
    have hX : va_X b xs.length (fun j => xs.getD j 0) s s.heap := ⟨scr, hcb, hof, hkn, hsz, hval⟩
    have K : W p l e room_1 s m #[Value.ref b] below meth c s₁.heap [] 0 0 (lw_Z below #[Value.ref b] s) (entryFrame m ([Value.ref b] : List Value).toArray 8) := by
      rw [hh0]
      exact whole_start HL l hflags hbd ⟨B.exec, B.bytes, B.returns, hml, hown, hts, hX, hbl, B.notSynchronized, htab, hgv⟩
    obtain ⟨t, a1, o, b1, b2, b3⟩ := K s₁ rfl X₀
    exact ⟨t, o, a1, b1, b2, b3⟩
theorem lw_pre_spec {args : Array Value} {s : State} (h : (Jvm.Cond.and given_1 narrow_1).before args s = true) (hr : rest_1_c.before args s = true) : ∃ (b : Addr) (xs : List Int32), lw_P b xs args s := by
  have hs := flat_of_before _ h
  have hq := flat_of_before _ hr
  have hc : (Cond.count 1).before args s = true := hs _ (by decide +kernel)
  have harr : (Cond.arrayOf (.arg 0) .int).before args s = true := hs _ (by decide +kernel)
  have hle : (Cond.le (.length (.arg 0)) (.int 576)).before args s = true := hs _ (by decide +kernel)
  have hlen : (Cond.isInt (.length (.arg 0))).before args s = true := hq _ (by decide +kernel)
  have hall : (Cond.all (.arg 0) (.isInt (.elem (.arg 0) (.index 0)))).before args s = true := hq _ (by decide +kernel)
  obtain ⟨b, xs, hb, hx⟩ := State.ints_of_pre rfl harr hlen hall
  have hsm : xs.length < 2 ^ 31 := hx.choose_spec.2.2.2
  have hev : (Term.length (.arg 0)).eval args s none [] s = some (.int xs.length.toInt32) := hx.length_eval hb
  have hv := Cond.le_ints hev (show (Term.int 576).eval args s none [] s = some (.int 576) from rfl)
  have hd : xs.length.toInt32 ≤ 576 := by
    simpa [Cond.before, Cond.holds, hv] using hle
  have hN : xs.length ≤ 576 := (Int32.ofNat_le_ofNat hsm (by decide)).mp (show Int32.ofNat xs.length ≤ Int32.ofNat 576 from hd)
  exact ⟨b, xs, Cond.one_arg hc (show args[0]? = some (.ref b) from hb), hx, hN, h⟩
theorem lw_comes (HL : gd_LAW) (l : Launch) (hflags : l.flags = flags0) : Comes l x (Jvm.Cond.code x code maxLocals ret :: tables_1) room_1 (fun tb e args s => Calls_1 tb e args s ∧ rest_1 tb e args s ∧ Pre_1 tb e args s)
    (fun _ _ args s o t => lw_Q args s o t) := by
  intro p e ha hc hk s m args below hf hfit hheap happ hpre
  obtain ⟨b, xs, hP⟩ := lw_pre_spec hpre.2.2 hpre.2.1
  obtain ⟨k, o, h1, h2, h3, hQ⟩ := lw_walk HL l hflags b xs p e ha hc hk s m args below hf ((Spec.applies_iff_loose hf).mp happ).1 hP trivial
  exact ⟨k, o, h1, h2, h3, hQ⟩
theorem lw_frame {s t : State} {o : Outcome} {args : Array Value} (h : Framed s o t [] 601024 7293034) :
    Framed s o t (fieldLocs frame_1_writes args s ++ arrayLocs frame_1_arrays args s ++ staticLocs frame_1_statics s) 601024 7293034 := h
theorem lw_limb (HL : gd_LAW) (L : Cond) (hL : ∀ (args : Array Value) (s t : State), L.after args s (.returned (some (.int 1))) t = true) :
    ArmFor flags0 classFile x code maxLocals ret World_1 tables_1 room_1 Calls_1 rest_1 Pre_1
      (fun tb e a s o t => postC L tb e a s o t ∧ Framed s o t (fieldLocs frame_1_writes a s ++ arrayLocs frame_1_arrays a s ++ staticLocs frame_1_statics s) 601024 7293034) := by
  intro l hflags _ _ p e ha hc hk s m args below hf hfit hheap happ hpre
  obtain ⟨k, o, h1, h2, h3, rfl, hF⟩ := lw_comes HL l hflags p e ha hc hk s m args below hf hfit hheap happ hpre
  exact ⟨k, _, h1, h2, h3, hL args s _, lw_frame hF⟩
theorem gd_vc (HL : gd_LAW) : Claimed_1_1 ∧ Claimed_1_2 := ⟨lw_limb HL limb_1_1 (fun args s t => by simp [limb_1_1, Cond.after, Cond.holds, Cond.value]), lw_limb HL limb_1_2 (fun args s t => Cond.after_iff.mpr (by
  first | (rw [show limb_1_2 = Cond.eq .result (.int 1) from rfl, Cond.eq_ints (x := 1) (y := 1) rfl rfl]; simp; done) | (simp [limb_1_2, Cond.value, Term.eval]; done)))⟩


/-! ===== WHAT HOLDS ALL THROUGH A RUN; a method's frame, its instructions' soundness ===== -/
set_option maxRecDepth 100000
/-- the String constants: class, entry, text, the index that stands for it -/
def gd_strs : List (String × Nat × String × Nat) := [("GrowingDoor$SchoolReader", 11, "board", 8), ("GrowingDoor$SchoolReader", 13, "boy", 10), ("GrowingDoor$SchoolReader", 15, "kin", 12), ("GrowingDoor$SchoolReader", 17, "rain", 14), ("GrowingDoor$LawReader", 11, "food", 16), ("GrowingDoor$LawReader", 13, "high", 18), ("GrowingDoor$LawReader", 15, "kin", 20), ("GrowingDoor$LawReader", 17, "rain", 22), ("GrowingDoor$LawReader", 19, "gain", 24), ("GrowingDoor$LawReader", 21, "month", 26), ("GrowingDoor$LawReader", 23, "door", 28), ("GrowingDoor$LawReader", 25, "boy", 30), ("GrowingDoor$LawReader", 61, "least", 32), ("GrowingDoor$LawReader", 67, "most", 34), ("GrowingDoor$WorkReader", 11, "notch", 36), ("GrowingDoor$WorkReader", 13, "feed", 38), ("GrowingDoor$WorkReader", 15, "oil", 40), ("GrowingDoor$WorkReader", 17, "plane", 42), ("GrowingDoor$WorkReader", 19, "leave", 44), ("GrowingDoor$WorkReader", 21, "back", 46), ("GrowingDoor$WorkReader", 23, "month", 48), ("GrowingDoor$WorkReader", 25, "again", 50), ("GrowingDoorModel", 205, "board", 52), ("GrowingDoorModel", 210, "boy", 54), ("GrowingDoorModel", 211, "kin", 56), ("GrowingDoorModel", 212, "rain", 58), ("GrowingDoorModel", 274, "least", 60), ("GrowingDoorModel", 279, "most", 62), ("GrowingDoorModel", 264, "food", 64), ("GrowingDoorModel", 266, "high", 66), ("GrowingDoorModel", 268, "gain", 68), ("GrowingDoorModel", 270, "month", 70), ("GrowingDoorModel", 272, "door", 72), ("GrowingDoorModel", 298, "notch", 74), ("GrowingDoorModel", 300, "leave", 76), ("GrowingDoorModel", 302, "back", 78), ("GrowingDoorModel", 304, "feed", 80), ("GrowingDoorModel", 306, "oil", 82), ("GrowingDoorModel", 308, "plane", 84), ("GrowingDoorModel", 310, "again", 86)]
def gd_A (G : gd_G) : Nat → Prop := fun q => g_b G ≤ q
/-- words of the tables that don't ride in the lists -/
def gd_xw : Cond → Bool
  | .fieldLinkNest .. => true | .methodLinkNest .. => true | .castable .. => true | .declares .. => true | .arrayOver (.object _) => true | _ => false
def gd_on : MethodName := ⟨"GrowingDoor$Term", "on", "(LGrowingDoor$Sight;)I"⟩
def KN (G : gd_G) (U : State) : Prop := gd_Z G ∧
  (∀ t q, gd_cl t = some q → u_Kn U q.1 q.2.1 q.2.2 (g_dC G t) (g_dI G t)) ∧
  (∀ t ty, gd_ety t = some ty → ArrOfT U (g_dC G t) ty ∧ va_RA U (g_dC G t) ty) ∧
  (∀ i ty cell, i < 96 → gd_fty (g_fk G i) = some ty → (g_H G)[g_fz G i]? = some cell → U.isArrayOf cell ty) ∧
  (∀ i, i < 96 → g_fk G i = 23 → i + 1 < 96 ∧ va_O "java/lang/String" (g_fz G i) (gd_A G) U (g_H G) ∧ va_OF "java/lang/String" "coder" "B" (.int 0) (g_fz G i) (gd_A G) U (g_H G) ∧ va_OF "java/lang/String" "value" "[B" (.ref (g_fz G (i + 1))) (g_fz G i) (gd_A G) U (g_H G)) ∧
  (∀ q ∈ gd_strs, vk_R q.1 q.2.1 q.2.2.1 (g_fz G q.2.2.2) U) ∧
  va_Z "java/lang/String" "COMPACT_STRINGS" "Z" (.int 1) (gd_A G) U (g_H G) ∧
  va_Z "jdk/internal/util/Preconditions" "SIOOBE_FORMATTER" "Ljava/util/function/BiFunction;" (g_sp G 1) (gd_A G) U (g_H G) ∧
  (va_Z Bundle.tN "UNASSIGNED_STACK" Bundle.steD (g_sp G 2) (gd_A G) U (g_H G) ∧ vx_Zq Bundle.tN "UNASSIGNED_STACK" Bundle.steD (gd_A G) U (g_H G)) ∧
  (va_Z Bundle.tN "SUPPRESSED_SENTINEL" Bundle.listD (g_sp G 3) (gd_A G) U (g_H G) ∧ vx_Zq Bundle.tN "SUPPRESSED_SENTINEL" Bundle.listD (gd_A G) U (g_H G)) ∧
  (∀ w ∈ lw_tbl, gd_xw w = true → va_Nw w U) ∧
  va_Fw RX14 gd_on yX14_on U ∧ va_Fw RX15 gd_on yX15_on U ∧ va_Fw RX13 gd_on yX13_on U ∧ va_Nc RJ3 RJ9 U
theorem gd_xw_warm {w : Cond} (hw : gd_xw w = true) {s U : State} (hW : s.WarmedH U.vm) (h : va_Nw w s) : va_Nw w U := by
  unfold gd_xw at hw
  split at hw
  · exact va_Nw.warmF hW h
  · exact va_Nw.warmM hW h
  · exact va_Nw.warmC hW h
  · exact va_Nw.warmD hW h
  · exact va_AO.moved hW.alike h
  · cases hw
theorem KN.moved {G : gd_G} {s U : State} (hW : s.WarmedH U.vm) (h : KN G s) : KN G U := by
  obtain ⟨a1, a2, a3, a4, a5, a6, a7, a8, a9, a10, a11, a12, a13, a14, a15⟩ := h
  exact ⟨a1, fun t q e => u_Kn_moved hW.alike (a2 t q e), fun t ty e => ⟨arrOfT_moved hW.alike (a3 t ty e).1, (a3 t ty e).2.moved hW.alike⟩, fun i ty cell hi e1 e2 => State.isArrayOf_alike hW.alike (a4 i ty cell hi e1 e2),
    fun i hi e => ⟨(a5 i hi e).1, (a5 i hi e).2.1.moved hW.alike, (a5 i hi e).2.2.1.moved hW.alike, (a5 i hi e).2.2.2.moved hW.alike⟩, fun q hq => (a6 q hq).warm hW, a7.moved hW.alike, a8.moved hW.alike, ⟨a9.1.moved hW.alike, a9.2.moved hW.alike⟩, ⟨a10.1.moved hW.alike, a10.2.moved hW.alike⟩,
    fun w h1 h2 => gd_xw_warm h2 hW (a11 w h1 h2), a12.moved (by decide +kernel) hW.alike, a13.moved (by decide +kernel) hW.alike, a14.moved (by decide +kernel) hW.alike, a15.moved hW.alike⟩
/-- the locals, as far as they are known -/
def lvr (G : gd_G) (ls : Array Slot) (nL : Nat) (L : List Value) : Prop := ls.size = nL ∧ lv_wf ls ∧ ∀ (i : Nat) (v : Value), L[i]? = some v → v ≠ .null → ls[i]? = some (.val (vf G v))
/-- the room that a method at depth d asks -/
def gd_rm (d mc ms : Nat) : Room := { frames := d + 13, cells := mc, slots := ms, locals := 72 * d + 464 }
def gd_ws (M : gd_M) : List Cond := if M.2.2.2.2 = [] then ws_ M.1 M.2.1 M.2.2.1 M.2.2.2.1 else wsW_ M.1 M.2.1 M.2.2.1 M.2.2.2.1 M.2.2.2.2
def gd_Pc (G : gd_G) (as : List Value) (h : gd_H) : Array Value → State → Prop := fun v U => v = (as.map (vf G)).toArray ∧ gd_R G h U.heap ∧ KN G U
def gd_Qc (G : gd_G) (o : Option Value ⊕ Nat) (h : gd_H) : Array Value → State → Outcome → State → Prop := fun _ _ r t => ∃ v, o = .inl v ∧ r = .returned (v.map (vf G)) ∧ gd_R G h t.heap
def gd_XC (G : gd_G) (o : Option Value ⊕ Nat) (h : gd_H) : String → Addr → State → State → Prop := fun E q _ t => ∃ (a : Nat) (r : vw_C), o = .inr a ∧ q = ad G a ∧ gd_cl (gT h a) = some r ∧ r.1 = E ∧ gd_R G h t.heap
/-- a method's contract, out of a run of it -/
def XM (G : gd_G) (l : Launch) (d : Nat) (M : gd_M) (as : List Value) (h : gd_H) (o : Option Value ⊕ Nat) (h2 : gd_H) : Prop :=
  gS h ≤ gS h2 ∧ gU h ≤ gU h2 ∧ vy_Met l M.1 (gd_ws M) (gd_rm d (gS h2 - gS h) (gU h2 - gU h)) (gd_Pc G as h) (gd_Qc G o h2) (gd_XC G o h2) (gS h2 - gS h) (gU h2 - gU h) (gd_A G)
theorem gd_blind (G : gd_G) (as : List Value) (h : gd_H) : FrameBlind (gd_Pc G as h) := fun a U g mk hp => ⟨hp.1, hp.2.1, KN.moved (State.WarmedH.refl U) hp.2.2⟩
/-- what a method's walk stands on -/
def Cx (G : gd_G) (l : Launch) (M : gd_M) (d zf uf z0 u0 : Nat) (p : Program) (R : Room) (s : State) (m : MethodId) (args : Array Value) (meth : Method) (c : Code) : Prop :=
  p.tables.exec = Jvm.exec ∧ c.code = M.2.1 ∧ c.maxLocals = M.2.2.1 ∧ meth.sig.returnType = M.2.2.2.1 ∧ s.vm.findClass M.1.cls = some m.cls ∧ (∀ w ∈ lw_all, w.before args s = true) ∧ KN G s ∧ meth.locks = false ∧
  c.exceptionTable.toList = tableOf M.2.2.2.2 ∧ meth.name = M.1.name ∧ l.stackTraces = false ∧ d + 14 ≤ R.frames ∧ 72 * d + 536 ≤ R.locals ∧ zf = z0 + R.cells ∧ uf = u0 + R.slots
section VWd
variable (G : gd_G) (p : Program) (l : Launch) (e : Env) (R : Room) (s : State) (m : MethodId) (args : Array Value) (below : List Frame) (meth : Method) (c : Code) (Q : State → Prop) (nL z0 u0 : Nat)
/-- the machine goes on from here, whatever heap and locals stand for these -/
def VW (pc : Nat) (L st : List Value) (h : gd_H) : Prop := ∀ (H : Heap) (locs : List Loc) (ls : Array Slot) (k n : Nat), gd_R G h H → (∀ q ∈ locs, g_b G ≤ q.base) → lvr G ls nL L → gS h = z0 + k → gU h = u0 + n →
  W p l e R s m args below meth c H locs k n Q (F0 m pc ls (st.map (vf G)))
/-- .. with the cell a thrown here -/
def XW (pc : Nat) (L : List Value) (a : Nat) (h : gd_H) : Prop := ∀ (H : Heap) (locs : List Loc) (ls : Array Slot) (k n : Nat) (rest : List Value), gd_R G h H → (∀ q ∈ locs, g_b G ≤ q.base) → lvr G ls nL L → gS h = z0 + k → gU h = u0 + n →
  vx_W p l e R s m args below meth c H locs k n Q (F0 m pc ls rest) (ad G a)
/-- what a method comes to -/
def FQ (o : Option Value ⊕ Nat) (h : gd_H) : State → Prop := vy_MQ below (gd_Qc G o h) (gd_XC G o h) args s R.cells R.slots (gd_A G)
/-- an instruction's outcome, sound -/
def SdR (C : gd_C) (zf uf pc : Nat) (L st : List Value) (h : gd_H) : gd_SR → Prop
  | .inl (q, L', st', h') => gS h ≤ gS h' ∧ gU h ≤ gU h' ∧ (gS h' ≤ zf → gU h' ≤ uf → VW G p l e R s m args below meth c Q nL z0 u0 q L' st' h' → VW G p l e R s m args below meth c Q nL z0 u0 pc L st h)
  | .inr (.inl (k', as, q, L', st', h')) => h' = h ∧ ∀ o h2, C k' as h = some (o, h2) → gS h ≤ gS h2 ∧ gU h ≤ gU h2 ∧ (gS h2 ≤ zf → gU h2 ≤ uf → (∀ v, o = .inl v → VW G p l e R s m args below meth c Q nL z0 u0 q L' (v.toList ++ st') h2) →
      (∀ a, o = .inr a → XW G p l e R s m args below meth c Q nL z0 u0 pc L' a h2) → VW G p l e R s m args below meth c Q nL z0 u0 pc L st h)
  | .inr (.inr (.inl v, h')) => h' = h ∧ ((∀ t, FQ G R s args below (.inl v) h t → Q t) → gS h ≤ zf → gU h ≤ uf → VW G p l e R s m args below meth c Q nL z0 u0 pc L st h)
  | .inr (.inr (.inr a, h')) => h' = h ∧ (XW G p l e R s m args below meth c Q nL z0 u0 pc L a h → VW G p l e R s m args below meth c Q nL z0 u0 pc L st h)
end VWd
/-- cells and elements only grow -/
def Sm (ins : gd_I) : Prop := ∀ L st h r, ins L st h = some r → match r with
  | .inl (_, _, _, h') => gS h ≤ gS h' ∧ gU h ≤ gU h'
  | .inr (.inl (_, _, _, _, _, h')) => h' = h
  | .inr (.inr (_, h')) => h' = h
/-- an instruction of the method M at pc is sound: mt names the methods -/
def Sd0 (mt : Nat → gd_M) (M : gd_M) (pc : Nat) (ins : gd_I) : Prop :=
  ∀ (G : gd_G) (l : Launch) (d : Nat) (C : gd_C), (∀ k as h o h2, C k as h = some (o, h2) → XM G l d (mt k) as h o h2) →
  ∀ (p : Program) (e : Env) (R : Room) (s : State) (m : MethodId) (args : Array Value) (below : List Frame) (meth : Method) (c : Code) (Q : State → Prop) (zf uf z0 u0 : Nat), Cx G l M d zf uf z0 u0 p R s m args meth c →
  ∀ (L st : List Value) (h : gd_H) (r : gd_SR), ins L st h = some r → SdR G p l e R s m args below meth c Q M.2.2.1 z0 u0 C zf uf pc L st h r
def Sd (mt : Nat → gd_M) (M : gd_M) (pc : Nat) (ins : gd_I) : Prop := Sm ins ∧ Sd0 mt M pc ins

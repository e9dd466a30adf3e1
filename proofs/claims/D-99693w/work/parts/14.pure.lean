/-! ===== INSTRUCTIONS WITHOUT HEAP, one by one ===== -/
def i_psh (v : Value) (q : Nat) : gd_I := fun L st h => nx q L (v :: st) h
theorem sd_iconst {mt : Nat → gd_M} {M : gd_M} {pc q : Nat} {n : Int} {v : Int32} (hd : decode M.2.1 pc = .ok (.iconst n, 1)) (hv : Int32.ofInt n = v) (hq : pc + 1 = q) : Sd mt M pc (i_psh (.int v) q) := by
  subst hq; exact Sd.ps fun L st h r hr => by
    cases hr
    exact ⟨_, _, _, rfl, fun G p l e R s m args below meth c Q Z hx hb ho ht hK H locs ls k1 n1 hH hl kk => lv_iconst hx hb hd hv (kk ls hl)⟩
theorem sd_bipush {mt : Nat → gd_M} {M : gd_M} {pc q : Nat} {n : Int} {v : Int32} (hd : decode M.2.1 pc = .ok (.bipush n, 2)) (hv : (Int8.ofInt n).toInt32 = v) (hq : pc + 2 = q) : Sd mt M pc (i_psh (.int v) q) := by
  subst hq; exact Sd.ps fun L st h r hr => by
    cases hr
    exact ⟨_, _, _, rfl, fun G p l e R s m args below meth c Q Z hx hb ho ht hK H locs ls k1 n1 hH hl kk => lv_bipush hx hb hd hv (kk ls hl)⟩
theorem sd_sipush {mt : Nat → gd_M} {M : gd_M} {pc q : Nat} {n : Int} {v : Int32} (hd : decode M.2.1 pc = .ok (.sipush n, 3)) (hv : (Int16.ofInt n).toInt32 = v) (hq : pc + 3 = q) : Sd mt M pc (i_psh (.int v) q) := by
  subst hq; exact Sd.ps fun L st h r hr => by
    cases hr
    exact ⟨_, _, _, rfl, fun G p l e R s m args below meth c Q Z hx hb ho ht hK H locs ls k1 n1 hH hl kk => lv_sipush hx hb hd hv (kk ls hl)⟩
theorem sd_lconst {mt : Nat → gd_M} {M : gd_M} {pc q : Nat} {n : Fin 2} {v : Int64} (hd : decode M.2.1 pc = .ok (.lconst n, 1)) (hv : Int64.ofNat (n : Nat) = v) (hq : pc + 1 = q) : Sd mt M pc (i_psh (.long v) q) := by
  subst hq; exact Sd.ps fun L st h r hr => by
    cases hr
    exact ⟨_, _, _, rfl, fun G p l e R s m args below meth c Q Z hx hb ho ht hK H locs ls k1 n1 hH hl kk => lv_lconst hx hb hd hv (kk ls hl)⟩
theorem sd_ldc {mt : Nat → gd_M} {M : gd_M} {pc q : Nat} {i : Nat} {v : Int32} (hd : decode M.2.1 pc = .ok (.ldc i, 2)) (hc : Cond.constant M.1.cls i v ∈ lw_all) (hq : pc + 2 = q) : Sd mt M pc (i_psh (.int v) q) := by
  subst hq; exact Sd.ps fun L st h r hr => by
    cases hr
    exact ⟨_, _, _, rfl, fun G p l e R s m args below meth c Q Z hx hb ho ht hK H locs ls k1 n1 hH hl kk => lv_ldc hx hb ho (ht _ hc) hd (kk ls hl)⟩
theorem sd_ldcw {mt : Nat → gd_M} {M : gd_M} {pc q : Nat} {i : Nat} {v : Int32} (hd : decode M.2.1 pc = .ok (.ldc_w i, 3)) (hc : Cond.constant M.1.cls i v ∈ lw_all) (hq : pc + 3 = q) : Sd mt M pc (i_psh (.int v) q) := by
  subst hq; exact Sd.ps fun L st h r hr => by
    cases hr
    exact ⟨_, _, _, rfl, fun G p l e R s m args below meth c Q Z hx hb ho ht hK H locs ls k1 n1 hH hl kk => lv_ldcw hx hb ho (ht _ hc) hd (kk ls hl)⟩
theorem sd_ldc2 {mt : Nat → gd_M} {M : gd_M} {pc q : Nat} {i : Nat} {v : Int64} (hd : decode M.2.1 pc = .ok (.ldc2_w i, 3)) (hc : Cond.constantLong M.1.cls i v ∈ lw_all) (hq : pc + 3 = q) : Sd mt M pc (i_psh (.long v) q) := by
  subst hq; exact Sd.ps fun L st h r hr => by
    cases hr
    exact ⟨_, _, _, rfl, fun G p l e R s m args below meth c Q Z hx hb ho ht hK H locs ls k1 n1 hH hl kk => lv_ldc2 hx hb ho (ht _ hc) hd (kk ls hl)⟩
theorem sd_null {mt : Nat → gd_M} {M : gd_M} {pc q : Nat} (hd : decode M.2.1 pc = .ok (.aconst_null, 1)) (hq : pc + 1 = q) : Sd mt M pc (i_psh (.ref 0) q) := by
  subst hq; exact Sd.ps fun L st h r hr => by
    cases hr
    exact ⟨_, _, _, rfl, fun G p l e R s m args below meth c Q Z hx hb ho ht hK H locs ls k1 n1 hH hl kk => lv_null hx hb hd (by have := kk ls hl; rw [List.map_cons, vf_0 Z] at this; exact this)⟩
theorem sd_ldcS {mt : Nat → gd_M} {M : gd_M} {pc q : Nat} {i n : Nat} {tx : String} (hd : decode M.2.1 pc = .ok (.ldc i, 2)) (hc : (M.1.cls, i, tx, n) ∈ gd_strs) (hn : 4 ≤ n ∧ n < 96) (hq : pc + 2 = q) : Sd mt M pc (i_psh (.ref n) q) := by
  subst hq; exact Sd.ps fun L st h r hr => by
    cases hr
    exact ⟨_, _, _, rfl, fun G p l e R s m args below meth c Q Z hx hb ho ht hK H locs ls k1 n1 hH hl kk => va_ldcS hx hb ho (hK.2.2.2.2.2.1 _ hc) hd (by have := kk ls hl; rw [List.map_cons, vf_hi G hn.1, ad_lo G hn.2] at this; exact this)⟩
theorem gd_ldcwS {p : Program} {l : Launch} {e : Env} {R : Room} {s : State} {m : MethodId} {args : Array Value} {below : List Frame} {meth : Method} {c : Code} {H : Heap} {locs : List Loc} {cells slots : Nat} {Q : State → Prop} {cc : ByteArray} {pc : Nat} {ls : Array Slot} {rest : List Value} (hexec : p.tables.exec = Jvm.exec) (hb : c.code = cc) {own tx : String} {index q : Nat} (hown : s.vm.findClass own = some m.cls) (hZ : vk_R own index tx q s) (hdg : decode cc pc = .ok (.ldc_w index, 3))
    (k : W p l e R s m args below meth c H locs cells slots Q (F0 m (pc + 3) ls (.ref q :: rest))) : W p l e R s m args below meth c H locs cells slots Q (F0 m pc ls rest) := by
  intro T hT X
  obtain ⟨t, a1, b1⟩ := k T hT X
  exact ⟨t, X.ldcStringW hexec hown (text := tx) (a := q) hZ.1 hZ.2 (g := F0 m pc ls rest) rfl (by rw [hb]; exact hdg) t a1, b1⟩
theorem sd_ldcwS {mt : Nat → gd_M} {M : gd_M} {pc q : Nat} {i n : Nat} {tx : String} (hd : decode M.2.1 pc = .ok (.ldc_w i, 3)) (hc : (M.1.cls, i, tx, n) ∈ gd_strs) (hn : 4 ≤ n ∧ n < 96) (hq : pc + 3 = q) : Sd mt M pc (i_psh (.ref n) q) := by
  subst hq; exact Sd.ps fun L st h r hr => by
    cases hr
    exact ⟨_, _, _, rfl, fun G p l e R s m args below meth c Q Z hx hb ho ht hK H locs ls k1 n1 hH hl kk => gd_ldcwS hx hb ho (hK.2.2.2.2.2.1 _ hc) hd (by have := kk ls hl; rw [List.map_cons, vf_hi G hn.1, ad_lo G hn.2] at this; exact this)⟩
def i_ild (n q : Nat) : gd_I := fun L st h => match L[n]? with
  | some (.int x) => nx q L (.int x :: st) h
  | _ => none
def i_lld (n q : Nat) : gd_I := fun L st h => match L[n]? with
  | some (.long x) => nx q L (.long x :: st) h
  | _ => none
def i_ald (n q : Nat) : gd_I := fun L st h => match L[n]? with
  | some (.ref x) => nx q L (.ref x :: st) h
  | _ => none
theorem sd_iload_n {mt : Nat → gd_M} {M : gd_M} {pc q : Nat} {k : Fin 4} {n : Nat} (hd : decode M.2.1 pc = .ok (.iload_n k, 1)) (hn : (k : Nat) = n) (hq : pc + 1 = q) : Sd mt M pc (i_ild n q) := by
  subst hq
  exact Sd.ps fun L st h r hr => by
    unfold i_ild at hr
    split at hr
    next x e9 => cases hr; exact ⟨_, _, _, rfl, fun G p l e R s m args below meth c Q Z hx hb ho ht hK H locs ls k1 n1 hH hl kk => lv_iload_n hx hb hd hn (hl.2.2 n _ e9 (by simp)) (kk ls hl)⟩
    next => cases hr
theorem sd_iload {mt : Nat → gd_M} {M : gd_M} {pc q : Nat} {n : Nat} (hd : decode M.2.1 pc = .ok (.iload n, 2)) (hq : pc + 2 = q) : Sd mt M pc (i_ild n q) := by
  subst hq
  exact Sd.ps fun L st h r hr => by
    unfold i_ild at hr
    split at hr
    next x e9 => cases hr; exact ⟨_, _, _, rfl, fun G p l e R s m args below meth c Q Z hx hb ho ht hK H locs ls k1 n1 hH hl kk => lv_iload hx hb hd (hl.2.2 n _ e9 (by simp)) (kk ls hl)⟩
    next => cases hr
theorem sd_lload_n {mt : Nat → gd_M} {M : gd_M} {pc q : Nat} {k : Fin 4} {n : Nat} (hd : decode M.2.1 pc = .ok (.lload_n k, 1)) (hn : (k : Nat) = n) (hq : pc + 1 = q) : Sd mt M pc (i_lld n q) := by
  subst hq
  exact Sd.ps fun L st h r hr => by
    unfold i_lld at hr
    split at hr
    next x e9 => cases hr; exact ⟨_, _, _, rfl, fun G p l e R s m args below meth c Q Z hx hb ho ht hK H locs ls k1 n1 hH hl kk => lv_lload_n hx hb hd hn (hl.2.2 n _ e9 (by simp)) (kk ls hl)⟩
    next => cases hr
theorem sd_lload {mt : Nat → gd_M} {M : gd_M} {pc q : Nat} {n : Nat} (hd : decode M.2.1 pc = .ok (.lload n, 2)) (hq : pc + 2 = q) : Sd mt M pc (i_lld n q) := by
  subst hq
  exact Sd.ps fun L st h r hr => by
    unfold i_lld at hr
    split at hr
    next x e9 => cases hr; exact ⟨_, _, _, rfl, fun G p l e R s m args below meth c Q Z hx hb ho ht hK H locs ls k1 n1 hH hl kk => lv_lload hx hb hd (hl.2.2 n _ e9 (by simp)) (kk ls hl)⟩
    next => cases hr
theorem gd_aload_n {p : Program} {l : Launch} {e : Env} {R : Room} {s : State} {m : MethodId} {args : Array Value} {below : List Frame} {meth : Method} {c : Code} {H : Heap} {locs : List Loc} {cells slots : Nat} {Q : State → Prop} {cc : ByteArray} {pc : Nat} {ls : Array Slot} {rest : List Value} (hexec : p.tables.exec = Jvm.exec) (hb : c.code = cc) {k : Fin 4} {i : Nat} {v : Value} (hdg : decode cc pc = .ok (.aload_n k, 1)) (hi : (k : Nat) = i) (hl : ls[i]? = some (.val v)) (hv : v = .null ∨ ∃ a, v = .ref a)
    (k2 : W p l e R s m args below meth c H locs cells slots Q (F0 m (pc + 1) ls (v :: rest))) : W p l e R s m args below meth c H locs cells slots Q (F0 m pc ls rest) := by
  subst hi
  intro T hT X
  obtain ⟨t, a, b⟩ := k2 T hT X
  refine ⟨t, ?_, b⟩
  rcases hv with rfl | ⟨x, rfl⟩
  · jvm_step X.here [X.here.top, hexec, hb, hdg, hl, Value.isRef]
    exact a
  · jvm_step X.here [X.here.top, hexec, hb, hdg, hl, Value.isRef]
    exact a
theorem gd_aload {p : Program} {l : Launch} {e : Env} {R : Room} {s : State} {m : MethodId} {args : Array Value} {below : List Frame} {meth : Method} {c : Code} {H : Heap} {locs : List Loc} {cells slots : Nat} {Q : State → Prop} {cc : ByteArray} {pc : Nat} {ls : Array Slot} {rest : List Value} (hexec : p.tables.exec = Jvm.exec) (hb : c.code = cc) {i : Nat} {v : Value} (hdg : decode cc pc = .ok (.aload i, 2)) (hl : ls[i]? = some (.val v)) (hv : v = .null ∨ ∃ a, v = .ref a)
    (k2 : W p l e R s m args below meth c H locs cells slots Q (F0 m (pc + 2) ls (v :: rest))) : W p l e R s m args below meth c H locs cells slots Q (F0 m pc ls rest) := by
  intro T hT X
  obtain ⟨t, a, b⟩ := k2 T hT X
  refine ⟨t, ?_, b⟩
  rcases hv with rfl | ⟨x, rfl⟩
  · jvm_step X.here [X.here.top, hexec, hb, hdg, hl, Value.isRef]
    exact a
  · jvm_step X.here [X.here.top, hexec, hb, hdg, hl, Value.isRef]
    exact a
theorem sd_aload_n {mt : Nat → gd_M} {M : gd_M} {pc q : Nat} {k : Fin 4} {n : Nat} (hd : decode M.2.1 pc = .ok (.aload_n k, 1)) (hn : (k : Nat) = n) (hq : pc + 1 = q) : Sd mt M pc (i_ald n q) := by
  subst hq
  exact Sd.ps fun L st h r hr => by
    unfold i_ald at hr
    split at hr
    next x e9 => cases hr; exact ⟨_, _, _, rfl, fun G p l e R s m args below meth c Q Z hx hb ho ht hK H locs ls k1 n1 hH hl kk => gd_aload_n hx hb hd hn (hl.2.2 n _ e9 (by simp)) (vf_isRef Z x) (kk ls hl)⟩
    next => cases hr
theorem sd_aload {mt : Nat → gd_M} {M : gd_M} {pc q : Nat} {n : Nat} (hd : decode M.2.1 pc = .ok (.aload n, 2)) (hq : pc + 2 = q) : Sd mt M pc (i_ald n q) := by
  subst hq
  exact Sd.ps fun L st h r hr => by
    unfold i_ald at hr
    split at hr
    next x e9 => cases hr; exact ⟨_, _, _, rfl, fun G p l e R s m args below meth c Q Z hx hb ho ht hK H locs ls k1 n1 hH hl kk => gd_aload hx hb hd (hl.2.2 n _ e9 (by simp)) (vf_isRef Z x) (kk ls hl)⟩
    next => cases hr
def i_ist (n q : Nat) : gd_I := fun L st h => match st with
  | .int x :: r => nx q (st1 L n (.int x)) r h
  | _ => none
def i_lst (n q : Nat) : gd_I := fun L st h => match st with
  | .long x :: r => nx q (st2 L n (.long x)) r h
  | _ => none
def i_ast (n q : Nat) : gd_I := fun L st h => match st with
  | .ref x :: r => nx q (st1 L n (.ref x)) r h
  | _ => none
theorem gd_istore_n {p : Program} {l : Launch} {e : Env} {R : Room} {s : State} {m : MethodId} {args : Array Value} {below : List Frame} {meth : Method} {c : Code} {H : Heap} {locs : List Loc} {cells slots : Nat} {Q : State → Prop} {cc : ByteArray} {pc : Nat} {ls ls' : Array Slot} {rest : List Value} (hexec : p.tables.exec = Jvm.exec) (hb : c.code = cc) {k : Fin 4} {i : Nat} {x : Int32} (hdg : decode cc pc = .ok (.istore_n k, 1)) (hi : (k : Nat) = i) (e' : storeLocals ls i (.int x) = some ls')
    (kk : W p l e R s m args below meth c H locs cells slots Q (F0 m (pc + 1) ls' rest)) : W p l e R s m args below meth c H locs cells slots Q (F0 m pc ls ((.int x) :: rest)) := by
  subst hi
  intro T hT X
  obtain ⟨t, a, b⟩ := kk T hT X
  refine ⟨t, ?_, b⟩
  jvm_step X.here [X.here.top, ↓top_set X.here.top, hexec, hb, hdg, e']
  exact a
theorem sd_istore_n {mt : Nat → gd_M} {M : gd_M} {pc q : Nat} {k : Fin 4} {n : Nat} (hd : decode M.2.1 pc = .ok (.istore_n k, 1)) (hn : (k : Nat) = n) (hb9 : n < M.2.2.1) (hq : pc + 1 = q) : Sd mt M pc (i_ist n q) := by
  subst hq
  exact Sd.ps fun L st h r hr => by
    unfold i_ist at hr
    split at hr
    next x r9 => cases hr; exact ⟨_, _, _, rfl, fun G p l e R s m args below meth c Q Z hx hb ho ht hK H locs ls k1 n1 hH hl kk => by
      obtain ⟨ls', e9, h9⟩ := lvr_1 (v := .int x) Z hl hb9 rfl
      exact gd_istore_n hx hb hd hn e9 (kk ls' h9)⟩
    next => cases hr
theorem gd_istore {p : Program} {l : Launch} {e : Env} {R : Room} {s : State} {m : MethodId} {args : Array Value} {below : List Frame} {meth : Method} {c : Code} {H : Heap} {locs : List Loc} {cells slots : Nat} {Q : State → Prop} {cc : ByteArray} {pc : Nat} {ls ls' : Array Slot} {rest : List Value} (hexec : p.tables.exec = Jvm.exec) (hb : c.code = cc) {i : Nat} {x : Int32} (hdg : decode cc pc = .ok (.istore i, 2)) (e' : storeLocals ls i (.int x) = some ls')
    (kk : W p l e R s m args below meth c H locs cells slots Q (F0 m (pc + 2) ls' rest)) : W p l e R s m args below meth c H locs cells slots Q (F0 m pc ls ((.int x) :: rest)) := by
  intro T hT X
  obtain ⟨t, a, b⟩ := kk T hT X
  refine ⟨t, ?_, b⟩
  jvm_step X.here [X.here.top, ↓top_set X.here.top, hexec, hb, hdg, e']
  exact a
theorem sd_istore {mt : Nat → gd_M} {M : gd_M} {pc q : Nat} {n : Nat} (hd : decode M.2.1 pc = .ok (.istore n, 2)) (hb9 : n < M.2.2.1) (hq : pc + 2 = q) : Sd mt M pc (i_ist n q) := by
  subst hq
  exact Sd.ps fun L st h r hr => by
    unfold i_ist at hr
    split at hr
    next x r9 => cases hr; exact ⟨_, _, _, rfl, fun G p l e R s m args below meth c Q Z hx hb ho ht hK H locs ls k1 n1 hH hl kk => by
      obtain ⟨ls', e9, h9⟩ := lvr_1 (v := .int x) Z hl hb9 rfl
      exact gd_istore hx hb hd e9 (kk ls' h9)⟩
    next => cases hr
theorem gd_lstore_n {p : Program} {l : Launch} {e : Env} {R : Room} {s : State} {m : MethodId} {args : Array Value} {below : List Frame} {meth : Method} {c : Code} {H : Heap} {locs : List Loc} {cells slots : Nat} {Q : State → Prop} {cc : ByteArray} {pc : Nat} {ls ls' : Array Slot} {rest : List Value} (hexec : p.tables.exec = Jvm.exec) (hb : c.code = cc) {k : Fin 4} {i : Nat} {x : Int64} (hdg : decode cc pc = .ok (.lstore_n k, 1)) (hi : (k : Nat) = i) (e' : storeLocals ls i (.long x) = some ls')
    (kk : W p l e R s m args below meth c H locs cells slots Q (F0 m (pc + 1) ls' rest)) : W p l e R s m args below meth c H locs cells slots Q (F0 m pc ls ((.long x) :: rest)) := by
  subst hi
  intro T hT X
  obtain ⟨t, a, b⟩ := kk T hT X
  refine ⟨t, ?_, b⟩
  jvm_step X.here [X.here.top, ↓top_set X.here.top, hexec, hb, hdg, e']
  exact a
theorem sd_lstore_n {mt : Nat → gd_M} {M : gd_M} {pc q : Nat} {k : Fin 4} {n : Nat} (hd : decode M.2.1 pc = .ok (.lstore_n k, 1)) (hn : (k : Nat) = n) (hb9 : n + 1 < M.2.2.1) (hq : pc + 1 = q) : Sd mt M pc (i_lst n q) := by
  subst hq
  exact Sd.ps fun L st h r hr => by
    unfold i_lst at hr
    split at hr
    next x r9 => cases hr; exact ⟨_, _, _, rfl, fun G p l e R s m args below meth c Q Z hx hb ho ht hK H locs ls k1 n1 hH hl kk => by
      obtain ⟨ls', e9, h9⟩ := lvr_2 (v := .long x) Z hl hb9 rfl
      exact gd_lstore_n hx hb hd hn e9 (kk ls' h9)⟩
    next => cases hr
theorem gd_lstore {p : Program} {l : Launch} {e : Env} {R : Room} {s : State} {m : MethodId} {args : Array Value} {below : List Frame} {meth : Method} {c : Code} {H : Heap} {locs : List Loc} {cells slots : Nat} {Q : State → Prop} {cc : ByteArray} {pc : Nat} {ls ls' : Array Slot} {rest : List Value} (hexec : p.tables.exec = Jvm.exec) (hb : c.code = cc) {i : Nat} {x : Int64} (hdg : decode cc pc = .ok (.lstore i, 2)) (e' : storeLocals ls i (.long x) = some ls')
    (kk : W p l e R s m args below meth c H locs cells slots Q (F0 m (pc + 2) ls' rest)) : W p l e R s m args below meth c H locs cells slots Q (F0 m pc ls ((.long x) :: rest)) := by
  intro T hT X
  obtain ⟨t, a, b⟩ := kk T hT X
  refine ⟨t, ?_, b⟩
  jvm_step X.here [X.here.top, ↓top_set X.here.top, hexec, hb, hdg, e']
  exact a
theorem sd_lstore {mt : Nat → gd_M} {M : gd_M} {pc q : Nat} {n : Nat} (hd : decode M.2.1 pc = .ok (.lstore n, 2)) (hb9 : n + 1 < M.2.2.1) (hq : pc + 2 = q) : Sd mt M pc (i_lst n q) := by
  subst hq
  exact Sd.ps fun L st h r hr => by
    unfold i_lst at hr
    split at hr
    next x r9 => cases hr; exact ⟨_, _, _, rfl, fun G p l e R s m args below meth c Q Z hx hb ho ht hK H locs ls k1 n1 hH hl kk => by
      obtain ⟨ls', e9, h9⟩ := lvr_2 (v := .long x) Z hl hb9 rfl
      exact gd_lstore hx hb hd e9 (kk ls' h9)⟩
    next => cases hr
theorem gd_astore_n {p : Program} {l : Launch} {e : Env} {R : Room} {s : State} {m : MethodId} {args : Array Value} {below : List Frame} {meth : Method} {c : Code} {H : Heap} {locs : List Loc} {cells slots : Nat} {Q : State → Prop} {cc : ByteArray} {pc : Nat} {ls ls' : Array Slot} {rest : List Value} (hexec : p.tables.exec = Jvm.exec) (hb : c.code = cc) {k : Fin 4} {i : Nat} {v : Value} (hdg : decode cc pc = .ok (.astore_n k, 1)) (hi : (k : Nat) = i) (e' : storeLocals ls i v = some ls') (hv : v = .null ∨ ∃ a, v = .ref a)
    (kk : W p l e R s m args below meth c H locs cells slots Q (F0 m (pc + 1) ls' rest)) : W p l e R s m args below meth c H locs cells slots Q (F0 m pc ls (v :: rest)) := by
  subst hi
  intro T hT X
  obtain ⟨t, a, b⟩ := kk T hT X
  refine ⟨t, ?_, b⟩
  rcases hv with rfl | ⟨x, rfl⟩
  · jvm_step X.here [X.here.top, ↓top_set X.here.top, hexec, hb, hdg, e', Value.isRef]
    exact a
  · jvm_step X.here [X.here.top, ↓top_set X.here.top, hexec, hb, hdg, e', Value.isRef]
    exact a
theorem sd_astore_n {mt : Nat → gd_M} {M : gd_M} {pc q : Nat} {k : Fin 4} {n : Nat} (hd : decode M.2.1 pc = .ok (.astore_n k, 1)) (hn : (k : Nat) = n) (hb9 : n < M.2.2.1) (hq : pc + 1 = q) : Sd mt M pc (i_ast n q) := by
  subst hq
  exact Sd.ps fun L st h r hr => by
    unfold i_ast at hr
    split at hr
    next x r9 => cases hr; exact ⟨_, _, _, rfl, fun G p l e R s m args below meth c Q Z hx hb ho ht hK H locs ls k1 n1 hH hl kk => by
      obtain ⟨ls', e9, h9⟩ := lvr_1 (v := .ref x) Z hl hb9 rfl
      exact gd_astore_n hx hb hd hn e9 (vf_isRef Z x) (kk ls' h9)⟩
    next => cases hr
theorem gd_astore {p : Program} {l : Launch} {e : Env} {R : Room} {s : State} {m : MethodId} {args : Array Value} {below : List Frame} {meth : Method} {c : Code} {H : Heap} {locs : List Loc} {cells slots : Nat} {Q : State → Prop} {cc : ByteArray} {pc : Nat} {ls ls' : Array Slot} {rest : List Value} (hexec : p.tables.exec = Jvm.exec) (hb : c.code = cc) {i : Nat} {v : Value} (hdg : decode cc pc = .ok (.astore i, 2)) (e' : storeLocals ls i v = some ls') (hv : v = .null ∨ ∃ a, v = .ref a)
    (kk : W p l e R s m args below meth c H locs cells slots Q (F0 m (pc + 2) ls' rest)) : W p l e R s m args below meth c H locs cells slots Q (F0 m pc ls (v :: rest)) := by
  intro T hT X
  obtain ⟨t, a, b⟩ := kk T hT X
  refine ⟨t, ?_, b⟩
  rcases hv with rfl | ⟨x, rfl⟩
  · jvm_step X.here [X.here.top, ↓top_set X.here.top, hexec, hb, hdg, e', Value.isRef]
    exact a
  · jvm_step X.here [X.here.top, ↓top_set X.here.top, hexec, hb, hdg, e', Value.isRef]
    exact a
theorem sd_astore {mt : Nat → gd_M} {M : gd_M} {pc q : Nat} {n : Nat} (hd : decode M.2.1 pc = .ok (.astore n, 2)) (hb9 : n < M.2.2.1) (hq : pc + 2 = q) : Sd mt M pc (i_ast n q) := by
  subst hq
  exact Sd.ps fun L st h r hr => by
    unfold i_ast at hr
    split at hr
    next x r9 => cases hr; exact ⟨_, _, _, rfl, fun G p l e R s m args below meth c Q Z hx hb ho ht hK H locs ls k1 n1 hH hl kk => by
      obtain ⟨ls', e9, h9⟩ := lvr_1 (v := .ref x) Z hl hb9 rfl
      exact gd_astore hx hb hd e9 (vf_isRef Z x) (kk ls' h9)⟩
    next => cases hr
def i_inc (n : Nat) (z : Int32) (q : Nat) : gd_I := fun L st h => match L[n]? with
  | some (.int x) => nx q (st1 L n (.int (x + z))) st h
  | _ => none
theorem gd_iinc {p : Program} {l : Launch} {e : Env} {R : Room} {s : State} {m : MethodId} {args : Array Value} {below : List Frame} {meth : Method} {c : Code} {H : Heap} {locs : List Loc} {cells slots : Nat} {Q : State → Prop} {cc : ByteArray} {pc : Nat} {ls ls' : Array Slot} {rest : List Value} (hexec : p.tables.exec = Jvm.exec) (hb : c.code = cc) {i : Nat} {n : Int} {x : Int32} (hdg : decode cc pc = .ok (.iinc i n, 3)) (hg : ls[i]? = some (.val (.int x))) (e' : storeLocals ls i (.int (x + Int32.ofInt n)) = some ls')
    (kk : W p l e R s m args below meth c H locs cells slots Q (F0 m (pc + 3) ls' rest)) : W p l e R s m args below meth c H locs cells slots Q (F0 m pc ls rest) := by
  intro T hT X
  obtain ⟨t, a, b⟩ := kk T hT X
  refine ⟨t, ?_, b⟩
  jvm_step X.here [X.here.top, ↓top_set X.here.top, hexec, hb, hdg, hg, e']
  exact a
theorem sd_iinc {mt : Nat → gd_M} {M : gd_M} {pc q : Nat} {n : Nat} {z : Int} {z' : Int32} (hd : decode M.2.1 pc = .ok (.iinc n z, 3)) (hz : Int32.ofInt z = z') (hb9 : n < M.2.2.1) (hq : pc + 3 = q) : Sd mt M pc (i_inc n z' q) := by
  subst hq; subst hz
  exact Sd.ps fun L st h r hr => by
    unfold i_inc at hr
    split at hr
    next x e9 => cases hr; exact ⟨_, _, _, rfl, fun G p l e R s m args below meth c Q Z hx hb ho ht hK H locs ls k1 n1 hH hl kk => by
      obtain ⟨ls', e8, h9⟩ := lvr_1 (v := .int (x + Int32.ofInt z)) Z hl hb9 rfl
      exact gd_iinc hx hb hd (hl.2.2 n _ e9 (by simp)) e8 (kk ls' h9)⟩
    next => cases hr
def i_iadd (q : Nat) : gd_I := fun L st h => match st with
  | .int y :: .int x :: r => nx q L (.int (x + y) :: r) h
  | _ => none
theorem sd_iadd {mt : Nat → gd_M} {M : gd_M} {pc q : Nat} (hd : decode M.2.1 pc = .ok (.iadd, 1)) (hq : pc + 1 = q) : Sd mt M pc (i_iadd q) := by
  subst hq
  exact Sd.ps fun L st h r hr => by
    unfold i_iadd at hr
    split at hr
    next => cases hr; exact ⟨_, _, _, rfl, fun G p l e R s m args below meth c Q Z hx hb ho ht hK H locs ls k1 n1 hH hl kk => lv_iadd hx hb hd (kk ls hl)⟩
    next => cases hr
def i_isub (q : Nat) : gd_I := fun L st h => match st with
  | .int y :: .int x :: r => nx q L (.int (x - y) :: r) h
  | _ => none
theorem sd_isub {mt : Nat → gd_M} {M : gd_M} {pc q : Nat} (hd : decode M.2.1 pc = .ok (.isub, 1)) (hq : pc + 1 = q) : Sd mt M pc (i_isub q) := by
  subst hq
  exact Sd.ps fun L st h r hr => by
    unfold i_isub at hr
    split at hr
    next => cases hr; exact ⟨_, _, _, rfl, fun G p l e R s m args below meth c Q Z hx hb ho ht hK H locs ls k1 n1 hH hl kk => lv_isub hx hb hd (kk ls hl)⟩
    next => cases hr
def i_imul (q : Nat) : gd_I := fun L st h => match st with
  | .int y :: .int x :: r => nx q L (.int (x * y) :: r) h
  | _ => none
theorem sd_imul {mt : Nat → gd_M} {M : gd_M} {pc q : Nat} (hd : decode M.2.1 pc = .ok (.imul, 1)) (hq : pc + 1 = q) : Sd mt M pc (i_imul q) := by
  subst hq
  exact Sd.ps fun L st h r hr => by
    unfold i_imul at hr
    split at hr
    next => cases hr; exact ⟨_, _, _, rfl, fun G p l e R s m args below meth c Q Z hx hb ho ht hK H locs ls k1 n1 hH hl kk => lv_imul hx hb hd (kk ls hl)⟩
    next => cases hr
def i_iand (q : Nat) : gd_I := fun L st h => match st with
  | .int y :: .int x :: r => nx q L (.int (x &&& y) :: r) h
  | _ => none
theorem sd_iand {mt : Nat → gd_M} {M : gd_M} {pc q : Nat} (hd : decode M.2.1 pc = .ok (.iand, 1)) (hq : pc + 1 = q) : Sd mt M pc (i_iand q) := by
  subst hq
  exact Sd.ps fun L st h r hr => by
    unfold i_iand at hr
    split at hr
    next => cases hr; exact ⟨_, _, _, rfl, fun G p l e R s m args below meth c Q Z hx hb ho ht hK H locs ls k1 n1 hH hl kk => lv_iand hx hb hd (kk ls hl)⟩
    next => cases hr
def i_ior (q : Nat) : gd_I := fun L st h => match st with
  | .int y :: .int x :: r => nx q L (.int (x ||| y) :: r) h
  | _ => none
theorem sd_ior {mt : Nat → gd_M} {M : gd_M} {pc q : Nat} (hd : decode M.2.1 pc = .ok (.ior, 1)) (hq : pc + 1 = q) : Sd mt M pc (i_ior q) := by
  subst hq
  exact Sd.ps fun L st h r hr => by
    unfold i_ior at hr
    split at hr
    next => cases hr; exact ⟨_, _, _, rfl, fun G p l e R s m args below meth c Q Z hx hb ho ht hK H locs ls k1 n1 hH hl kk => lv_ior hx hb hd (kk ls hl)⟩
    next => cases hr
def i_ixor (q : Nat) : gd_I := fun L st h => match st with
  | .int y :: .int x :: r => nx q L (.int (x ^^^ y) :: r) h
  | _ => none
theorem sd_ixor {mt : Nat → gd_M} {M : gd_M} {pc q : Nat} (hd : decode M.2.1 pc = .ok (.ixor, 1)) (hq : pc + 1 = q) : Sd mt M pc (i_ixor q) := by
  subst hq
  exact Sd.ps fun L st h r hr => by
    unfold i_ixor at hr
    split at hr
    next => cases hr; exact ⟨_, _, _, rfl, fun G p l e R s m args below meth c Q Z hx hb ho ht hK H locs ls k1 n1 hH hl kk => lv_ixor hx hb hd (kk ls hl)⟩
    next => cases hr
def i_ishl (q : Nat) : gd_I := fun L st h => match st with
  | .int y :: .int x :: r => nx q L (.int (x <<< (y &&& 31)) :: r) h
  | _ => none
theorem sd_ishl {mt : Nat → gd_M} {M : gd_M} {pc q : Nat} (hd : decode M.2.1 pc = .ok (.ishl, 1)) (hq : pc + 1 = q) : Sd mt M pc (i_ishl q) := by
  subst hq
  exact Sd.ps fun L st h r hr => by
    unfold i_ishl at hr
    split at hr
    next => cases hr; exact ⟨_, _, _, rfl, fun G p l e R s m args below meth c Q Z hx hb ho ht hK H locs ls k1 n1 hH hl kk => lv_ishl hx hb hd (kk ls hl)⟩
    next => cases hr
def i_ishr (q : Nat) : gd_I := fun L st h => match st with
  | .int y :: .int x :: r => nx q L (.int (x >>> (y &&& 31)) :: r) h
  | _ => none
theorem sd_ishr {mt : Nat → gd_M} {M : gd_M} {pc q : Nat} (hd : decode M.2.1 pc = .ok (.ishr, 1)) (hq : pc + 1 = q) : Sd mt M pc (i_ishr q) := by
  subst hq
  exact Sd.ps fun L st h r hr => by
    unfold i_ishr at hr
    split at hr
    next => cases hr; exact ⟨_, _, _, rfl, fun G p l e R s m args below meth c Q Z hx hb ho ht hK H locs ls k1 n1 hH hl kk => lv_ishr hx hb hd (kk ls hl)⟩
    next => cases hr
def i_iushr (q : Nat) : gd_I := fun L st h => match st with
  | .int y :: .int x :: r => nx q L (.int ((x.toUInt32 >>> (y.toUInt32 &&& Int32.toUInt32 31)).toInt32) :: r) h
  | _ => none
theorem sd_iushr {mt : Nat → gd_M} {M : gd_M} {pc q : Nat} (hd : decode M.2.1 pc = .ok (.iushr, 1)) (hq : pc + 1 = q) : Sd mt M pc (i_iushr q) := by
  subst hq
  exact Sd.ps fun L st h r hr => by
    unfold i_iushr at hr
    split at hr
    next => cases hr; exact ⟨_, _, _, rfl, fun G p l e R s m args below meth c Q Z hx hb ho ht hK H locs ls k1 n1 hH hl kk => lv_iushr hx hb hd rfl (kk ls hl)⟩
    next => cases hr
def i_idiv (q : Nat) : gd_I := fun L st h => match st with
  | .int y :: .int x :: r => if y = 0 then none else nx q L (.int (x / y) :: r) h
  | _ => none
theorem sd_idiv {mt : Nat → gd_M} {M : gd_M} {pc q : Nat} (hd : decode M.2.1 pc = .ok (.idiv, 1)) (hq : pc + 1 = q) : Sd mt M pc (i_idiv q) := by
  subst hq
  exact Sd.ps fun L st h r hr => by
    unfold i_idiv at hr
    split at hr
    next y x r9 =>
      split at hr
      next => cases hr
      next hne => cases hr; exact ⟨_, _, _, rfl, fun G p l e R s m args below meth c Q Z hx hb ho ht hK H locs ls k1 n1 hH hl kk => lv_idiv hx hb hd hne (kk ls hl)⟩
    next => cases hr
def i_irem (q : Nat) : gd_I := fun L st h => match st with
  | .int y :: .int x :: r => if y = 0 then none else nx q L (.int (x - x / y * y) :: r) h
  | _ => none
theorem sd_irem {mt : Nat → gd_M} {M : gd_M} {pc q : Nat} (hd : decode M.2.1 pc = .ok (.irem, 1)) (hq : pc + 1 = q) : Sd mt M pc (i_irem q) := by
  subst hq
  exact Sd.ps fun L st h r hr => by
    unfold i_irem at hr
    split at hr
    next y x r9 =>
      split at hr
      next => cases hr
      next hne => cases hr; exact ⟨_, _, _, rfl, fun G p l e R s m args below meth c Q Z hx hb ho ht hK H locs ls k1 n1 hH hl kk => lv_irem hx hb hd hne (kk ls hl)⟩
    next => cases hr
def i_ladd (q : Nat) : gd_I := fun L st h => match st with
  | .long y :: .long x :: r => nx q L (.long (x + y) :: r) h
  | _ => none
theorem sd_ladd {mt : Nat → gd_M} {M : gd_M} {pc q : Nat} (hd : decode M.2.1 pc = .ok (.ladd, 1)) (hq : pc + 1 = q) : Sd mt M pc (i_ladd q) := by
  subst hq
  exact Sd.ps fun L st h r hr => by
    unfold i_ladd at hr
    split at hr
    next => cases hr; exact ⟨_, _, _, rfl, fun G p l e R s m args below meth c Q Z hx hb ho ht hK H locs ls k1 n1 hH hl kk => lv_ladd hx hb hd (kk ls hl)⟩
    next => cases hr
def i_lsub (q : Nat) : gd_I := fun L st h => match st with
  | .long y :: .long x :: r => nx q L (.long (x - y) :: r) h
  | _ => none
theorem sd_lsub {mt : Nat → gd_M} {M : gd_M} {pc q : Nat} (hd : decode M.2.1 pc = .ok (.lsub, 1)) (hq : pc + 1 = q) : Sd mt M pc (i_lsub q) := by
  subst hq
  exact Sd.ps fun L st h r hr => by
    unfold i_lsub at hr
    split at hr
    next => cases hr; exact ⟨_, _, _, rfl, fun G p l e R s m args below meth c Q Z hx hb ho ht hK H locs ls k1 n1 hH hl kk => lv_lsub hx hb hd (kk ls hl)⟩
    next => cases hr
def i_lmul (q : Nat) : gd_I := fun L st h => match st with
  | .long y :: .long x :: r => nx q L (.long (x * y) :: r) h
  | _ => none
theorem sd_lmul {mt : Nat → gd_M} {M : gd_M} {pc q : Nat} (hd : decode M.2.1 pc = .ok (.lmul, 1)) (hq : pc + 1 = q) : Sd mt M pc (i_lmul q) := by
  subst hq
  exact Sd.ps fun L st h r hr => by
    unfold i_lmul at hr
    split at hr
    next => cases hr; exact ⟨_, _, _, rfl, fun G p l e R s m args below meth c Q Z hx hb ho ht hK H locs ls k1 n1 hH hl kk => lv_lmul hx hb hd (kk ls hl)⟩
    next => cases hr
def i_ldiv (q : Nat) : gd_I := fun L st h => match st with
  | .long y :: .long x :: r => if y = 0 then none else nx q L (.long (x / y) :: r) h
  | _ => none
theorem sd_ldiv {mt : Nat → gd_M} {M : gd_M} {pc q : Nat} (hd : decode M.2.1 pc = .ok (.ldiv, 1)) (hq : pc + 1 = q) : Sd mt M pc (i_ldiv q) := by
  subst hq
  exact Sd.ps fun L st h r hr => by
    unfold i_ldiv at hr
    split at hr
    next y x r9 =>
      split at hr
      next => cases hr
      next hne => cases hr; exact ⟨_, _, _, rfl, fun G p l e R s m args below meth c Q Z hx hb ho ht hK H locs ls k1 n1 hH hl kk => lv_ldiv hx hb hd hne (kk ls hl)⟩
    next => cases hr
def i_lrem (q : Nat) : gd_I := fun L st h => match st with
  | .long y :: .long x :: r => if y = 0 then none else nx q L (.long (x - x / y * y) :: r) h
  | _ => none
theorem sd_lrem {mt : Nat → gd_M} {M : gd_M} {pc q : Nat} (hd : decode M.2.1 pc = .ok (.lrem, 1)) (hq : pc + 1 = q) : Sd mt M pc (i_lrem q) := by
  subst hq
  exact Sd.ps fun L st h r hr => by
    unfold i_lrem at hr
    split at hr
    next y x r9 =>
      split at hr
      next => cases hr
      next hne => cases hr; exact ⟨_, _, _, rfl, fun G p l e R s m args below meth c Q Z hx hb ho ht hK H locs ls k1 n1 hH hl kk => lv_lrem hx hb hd hne (kk ls hl)⟩
    next => cases hr
def i_ineg (q : Nat) : gd_I := fun L st h => match st with
  | .int x :: r => nx q L (.int (-x) :: r) h
  | _ => none
theorem sd_ineg {mt : Nat → gd_M} {M : gd_M} {pc q : Nat} (hd : decode M.2.1 pc = .ok (.ineg, 1)) (hq : pc + 1 = q) : Sd mt M pc (i_ineg q) := by
  subst hq
  exact Sd.ps fun L st h r hr => by
    unfold i_ineg at hr
    split at hr
    next => cases hr; exact ⟨_, _, _, rfl, fun G p l e R s m args below meth c Q Z hx hb ho ht hK H locs ls k1 n1 hH hl kk => lv_ineg hx hb hd (kk ls hl)⟩
    next => cases hr
def i_i2l (q : Nat) : gd_I := fun L st h => match st with
  | .int x :: r => nx q L (.long (x.toInt64) :: r) h
  | _ => none
theorem sd_i2l {mt : Nat → gd_M} {M : gd_M} {pc q : Nat} (hd : decode M.2.1 pc = .ok (.i2l, 1)) (hq : pc + 1 = q) : Sd mt M pc (i_i2l q) := by
  subst hq
  exact Sd.ps fun L st h r hr => by
    unfold i_i2l at hr
    split at hr
    next => cases hr; exact ⟨_, _, _, rfl, fun G p l e R s m args below meth c Q Z hx hb ho ht hK H locs ls k1 n1 hH hl kk => lv_i2l hx hb hd rfl (kk ls hl)⟩
    next => cases hr
def i_l2i (q : Nat) : gd_I := fun L st h => match st with
  | .long x :: r => nx q L (.int (x.toInt32) :: r) h
  | _ => none
theorem sd_l2i {mt : Nat → gd_M} {M : gd_M} {pc q : Nat} (hd : decode M.2.1 pc = .ok (.l2i, 1)) (hq : pc + 1 = q) : Sd mt M pc (i_l2i q) := by
  subst hq
  exact Sd.ps fun L st h r hr => by
    unfold i_l2i at hr
    split at hr
    next => cases hr; exact ⟨_, _, _, rfl, fun G p l e R s m args below meth c Q Z hx hb ho ht hK H locs ls k1 n1 hH hl kk => lv_l2i hx hb hd rfl (kk ls hl)⟩
    next => cases hr
def i_i2b (q : Nat) : gd_I := fun L st h => match st with
  | .int x :: r => nx q L (.int (x.toInt8.toInt32) :: r) h
  | _ => none
theorem sd_i2b {mt : Nat → gd_M} {M : gd_M} {pc q : Nat} (hd : decode M.2.1 pc = .ok (.i2b, 1)) (hq : pc + 1 = q) : Sd mt M pc (i_i2b q) := by
  subst hq
  exact Sd.ps fun L st h r hr => by
    unfold i_i2b at hr
    split at hr
    next => cases hr; exact ⟨_, _, _, rfl, fun G p l e R s m args below meth c Q Z hx hb ho ht hK H locs ls k1 n1 hH hl kk => lv_i2b hx hb hd rfl (kk ls hl)⟩
    next => cases hr
def i_i2c (q : Nat) : gd_I := fun L st h => match st with
  | .int x :: r => nx q L (.int ((x.toUInt32 % 65536).toInt32) :: r) h
  | _ => none
theorem sd_i2c {mt : Nat → gd_M} {M : gd_M} {pc q : Nat} (hd : decode M.2.1 pc = .ok (.i2c, 1)) (hq : pc + 1 = q) : Sd mt M pc (i_i2c q) := by
  subst hq
  exact Sd.ps fun L st h r hr => by
    unfold i_i2c at hr
    split at hr
    next => cases hr; exact ⟨_, _, _, rfl, fun G p l e R s m args below meth c Q Z hx hb ho ht hK H locs ls k1 n1 hH hl kk => lv_i2c hx hb hd rfl (kk ls hl)⟩
    next => cases hr
def i_lcmp (q : Nat) : gd_I := fun L st h => match st with
  | .long y :: .long x :: r => nx q L (.int (lg_cmp x y) :: r) h
  | _ => none
theorem sd_lcmp {mt : Nat → gd_M} {M : gd_M} {pc q : Nat} (hd : decode M.2.1 pc = .ok (.lcmp, 1)) (hq : pc + 1 = q) : Sd mt M pc (i_lcmp q) := by
  subst hq
  exact Sd.ps fun L st h r hr => by
    unfold i_lcmp at hr
    split at hr
    next => cases hr; exact ⟨_, _, _, rfl, fun G p l e R s m args below meth c Q Z hx hb ho ht hK H locs ls k1 n1 hH hl kk => W.lcmp hx hb hd (kk ls hl)⟩
    next => cases hr
def i_lshl (q : Nat) : gd_I := fun L st h => match st with
  | .int y :: .long x :: r => nx q L (.long (x <<< (y.toInt64 &&& 63)) :: r) h
  | _ => none
theorem sd_lshl {mt : Nat → gd_M} {M : gd_M} {pc q : Nat} (hd : decode M.2.1 pc = .ok (.lshl, 1)) (hq : pc + 1 = q) : Sd mt M pc (i_lshl q) := by
  subst hq
  exact Sd.ps fun L st h r hr => by
    unfold i_lshl at hr
    split at hr
    next => cases hr; exact ⟨_, _, _, rfl, fun G p l e R s m args below meth c Q Z hx hb ho ht hK H locs ls k1 n1 hH hl kk => lv_lshl hx hb hd rfl (kk ls hl)⟩
    next => cases hr
theorem is2_1 {G : gd_G} (Z : gd_Z G) {v : Value} (h : is2 v = false) : (vf G v).category = 1 := by
  rw [vf_cat Z]
  cases v <;> simp_all [is2, Value.category]
def i_dup (q : Nat) : gd_I := fun L st h => match st with
  | v :: r => if is2 v = false then nx q L (v :: v :: r) h else none
  | _ => none
theorem sd_dup {mt : Nat → gd_M} {M : gd_M} {pc q : Nat} (hd : decode M.2.1 pc = .ok (.dup, 1)) (hq : pc + 1 = q) : Sd mt M pc (i_dup q) := by
  subst hq
  exact Sd.ps fun L st h r hr => by
    unfold i_dup at hr
    split at hr
    next =>
      split at hr
      next hg => cases hr; exact ⟨_, _, _, rfl, fun G p l e R s m args below meth c Q Z hx hb ho ht hK H locs ls k1 n1 hH hl kk => lv_dup hx hb hd (is2_1 Z hg) (kk ls hl)⟩
      next => cases hr
    next => cases hr
def i_pop (q : Nat) : gd_I := fun L st h => match st with
  | v :: r => if is2 v = false then nx q L (r) h else none
  | _ => none
theorem sd_pop {mt : Nat → gd_M} {M : gd_M} {pc q : Nat} (hd : decode M.2.1 pc = .ok (.pop, 1)) (hq : pc + 1 = q) : Sd mt M pc (i_pop q) := by
  subst hq
  exact Sd.ps fun L st h r hr => by
    unfold i_pop at hr
    split at hr
    next =>
      split at hr
      next hg => cases hr; exact ⟨_, _, _, rfl, fun G p l e R s m args below meth c Q Z hx hb ho ht hK H locs ls k1 n1 hH hl kk => lv_pop hx hb hd (is2_1 Z hg) (kk ls hl)⟩
      next => cases hr
    next => cases hr
def i_dupx1 (q : Nat) : gd_I := fun L st h => match st with
  | v :: w :: r => if is2 v = false ∧ is2 w = false then nx q L (v :: w :: v :: r) h else none
  | _ => none
theorem sd_dupx1 {mt : Nat → gd_M} {M : gd_M} {pc q : Nat} (hd : decode M.2.1 pc = .ok (.dup_x1, 1)) (hq : pc + 1 = q) : Sd mt M pc (i_dupx1 q) := by
  subst hq
  exact Sd.ps fun L st h r hr => by
    unfold i_dupx1 at hr
    split at hr
    next =>
      split at hr
      next hg => cases hr; exact ⟨_, _, _, rfl, fun G p l e R s m args below meth c Q Z hx hb ho ht hK H locs ls k1 n1 hH hl kk => lv_dup_x1 hx hb hd (is2_1 Z hg.1) (is2_1 Z hg.2) (kk ls hl)⟩
      next => cases hr
    next => cases hr
def i_dupx2 (q : Nat) : gd_I := fun L st h => match st with
  | v :: w :: u :: r => if is2 v = false ∧ is2 w = false ∧ is2 u = false then nx q L (v :: w :: u :: v :: r) h else none
  | _ => none
theorem sd_dupx2 {mt : Nat → gd_M} {M : gd_M} {pc q : Nat} (hd : decode M.2.1 pc = .ok (.dup_x2, 1)) (hq : pc + 1 = q) : Sd mt M pc (i_dupx2 q) := by
  subst hq
  exact Sd.ps fun L st h r hr => by
    unfold i_dupx2 at hr
    split at hr
    next =>
      split at hr
      next hg => cases hr; exact ⟨_, _, _, rfl, fun G p l e R s m args below meth c Q Z hx hb ho ht hK H locs ls k1 n1 hH hl kk => lv_dup_x2 hx hb hd (is2_1 Z hg.1) (is2_1 Z hg.2.1) (is2_1 Z hg.2.2) (kk ls hl)⟩
      next => cases hr
    next => cases hr
def i_dup2 (q : Nat) : gd_I := fun L st h => match st with
  | v :: w :: r => if is2 v = false ∧ is2 w = false then nx q L (v :: w :: v :: w :: r) h else none
  | _ => none
theorem sd_dup2 {mt : Nat → gd_M} {M : gd_M} {pc q : Nat} (hd : decode M.2.1 pc = .ok (.dup2, 1)) (hq : pc + 1 = q) : Sd mt M pc (i_dup2 q) := by
  subst hq
  exact Sd.ps fun L st h r hr => by
    unfold i_dup2 at hr
    split at hr
    next =>
      split at hr
      next hg => cases hr; exact ⟨_, _, _, rfl, fun G p l e R s m args below meth c Q Z hx hb ho ht hK H locs ls k1 n1 hH hl kk => lv_dup2_11 hx hb hd (is2_1 Z hg.1) (is2_1 Z hg.2) (kk ls hl)⟩
      next => cases hr
    next => cases hr
def i_dup2l (q : Nat) : gd_I := fun L st h => match st with
  | .long x :: r => nx q L (.long x :: .long x :: r) h
  | _ => none
theorem sd_dup2l {mt : Nat → gd_M} {M : gd_M} {pc q : Nat} (hd : decode M.2.1 pc = .ok (.dup2, 1)) (hq : pc + 1 = q) : Sd mt M pc (i_dup2l q) := by
  subst hq
  exact Sd.ps fun L st h r hr => by
    unfold i_dup2l at hr
    split at hr
    next x r9 => cases hr; exact ⟨_, _, _, rfl, fun G p l e R s m args below meth c Q Z hx hb ho ht hK H locs ls k1 n1 hH hl kk => lv_dup2_2 hx hb hd rfl (kk ls hl)⟩
    next => cases hr
def i_ifeq (t q : Nat) : gd_I := fun L st h => match st with
  | .int x :: r => if x = 0 then nx t L r h else nx q L r h
  | _ => none
theorem sd_ifeq {mt : Nat → gd_M} {M : gd_M} {pc q : Nat} {off : Int} {t : Nat} (hd : decode M.2.1 pc = .ok (.ifCond .eq off, 3)) (ht9 : (pc : Int) + off = (t : Int)) (hq : pc + 3 = q) : Sd mt M pc (i_ifeq t q) := by
  subst hq
  exact Sd.ps fun L st h r hr => by
    unfold i_ifeq at hr
    split at hr
    next =>
      split at hr
      next hc => cases hr; exact ⟨_, _, _, rfl, fun G p l e R s m args below meth c Q Z hx hb ho ht hK H locs ls k1 n1 hH hl kk => lv_if_eq hx hb hd ht9 (fun _ => kk ls hl) (fun z => absurd hc z)⟩
      next hc => cases hr; exact ⟨_, _, _, rfl, fun G p l e R s m args below meth c Q Z hx hb ho ht hK H locs ls k1 n1 hH hl kk => lv_if_eq hx hb hd ht9 (fun z => absurd z hc) (fun _ => kk ls hl)⟩
    next => cases hr
def i_iceq (t q : Nat) : gd_I := fun L st h => match st with
  | .int y :: .int x :: r => if x = y then nx t L r h else nx q L r h
  | _ => none
theorem sd_iceq {mt : Nat → gd_M} {M : gd_M} {pc q : Nat} {off : Int} {t : Nat} (hd : decode M.2.1 pc = .ok (.if_icmp .eq off, 3)) (ht9 : (pc : Int) + off = (t : Int)) (hq : pc + 3 = q) : Sd mt M pc (i_iceq t q) := by
  subst hq
  exact Sd.ps fun L st h r hr => by
    unfold i_iceq at hr
    split at hr
    next =>
      split at hr
      next hc => cases hr; exact ⟨_, _, _, rfl, fun G p l e R s m args below meth c Q Z hx hb ho ht hK H locs ls k1 n1 hH hl kk => lv_icmp_eq hx hb hd ht9 (fun _ => kk ls hl) (fun z => absurd hc z)⟩
      next hc => cases hr; exact ⟨_, _, _, rfl, fun G p l e R s m args below meth c Q Z hx hb ho ht hK H locs ls k1 n1 hH hl kk => lv_icmp_eq hx hb hd ht9 (fun z => absurd z hc) (fun _ => kk ls hl)⟩
    next => cases hr
def i_ifne (t q : Nat) : gd_I := fun L st h => match st with
  | .int x :: r => if x = 0 then nx q L r h else nx t L r h
  | _ => none
theorem sd_ifne {mt : Nat → gd_M} {M : gd_M} {pc q : Nat} {off : Int} {t : Nat} (hd : decode M.2.1 pc = .ok (.ifCond .ne off, 3)) (ht9 : (pc : Int) + off = (t : Int)) (hq : pc + 3 = q) : Sd mt M pc (i_ifne t q) := by
  subst hq
  exact Sd.ps fun L st h r hr => by
    unfold i_ifne at hr
    split at hr
    next =>
      split at hr
      next hc => cases hr; exact ⟨_, _, _, rfl, fun G p l e R s m args below meth c Q Z hx hb ho ht hK H locs ls k1 n1 hH hl kk => lv_if_ne hx hb hd ht9 (fun z => absurd hc z) (fun _ => kk ls hl)⟩
      next hc => cases hr; exact ⟨_, _, _, rfl, fun G p l e R s m args below meth c Q Z hx hb ho ht hK H locs ls k1 n1 hH hl kk => lv_if_ne hx hb hd ht9 (fun _ => kk ls hl) (fun z => absurd z hc)⟩
    next => cases hr
def i_icne (t q : Nat) : gd_I := fun L st h => match st with
  | .int y :: .int x :: r => if x = y then nx q L r h else nx t L r h
  | _ => none
theorem sd_icne {mt : Nat → gd_M} {M : gd_M} {pc q : Nat} {off : Int} {t : Nat} (hd : decode M.2.1 pc = .ok (.if_icmp .ne off, 3)) (ht9 : (pc : Int) + off = (t : Int)) (hq : pc + 3 = q) : Sd mt M pc (i_icne t q) := by
  subst hq
  exact Sd.ps fun L st h r hr => by
    unfold i_icne at hr
    split at hr
    next =>
      split at hr
      next hc => cases hr; exact ⟨_, _, _, rfl, fun G p l e R s m args below meth c Q Z hx hb ho ht hK H locs ls k1 n1 hH hl kk => lv_icmp_ne hx hb hd ht9 (fun z => absurd hc z) (fun _ => kk ls hl)⟩
      next hc => cases hr; exact ⟨_, _, _, rfl, fun G p l e R s m args below meth c Q Z hx hb ho ht hK H locs ls k1 n1 hH hl kk => lv_icmp_ne hx hb hd ht9 (fun _ => kk ls hl) (fun z => absurd z hc)⟩
    next => cases hr
def i_iflt (t q : Nat) : gd_I := fun L st h => match st with
  | .int x :: r => if x < 0 then nx t L r h else nx q L r h
  | _ => none
theorem sd_iflt {mt : Nat → gd_M} {M : gd_M} {pc q : Nat} {off : Int} {t : Nat} (hd : decode M.2.1 pc = .ok (.ifCond .lt off, 3)) (ht9 : (pc : Int) + off = (t : Int)) (hq : pc + 3 = q) : Sd mt M pc (i_iflt t q) := by
  subst hq
  exact Sd.ps fun L st h r hr => by
    unfold i_iflt at hr
    split at hr
    next =>
      split at hr
      next hc => cases hr; exact ⟨_, _, _, rfl, fun G p l e R s m args below meth c Q Z hx hb ho ht hK H locs ls k1 n1 hH hl kk => lv_if_lt hx hb hd ht9 (fun _ => kk ls hl) (fun z => absurd hc z)⟩
      next hc => cases hr; exact ⟨_, _, _, rfl, fun G p l e R s m args below meth c Q Z hx hb ho ht hK H locs ls k1 n1 hH hl kk => lv_if_lt hx hb hd ht9 (fun z => absurd z hc) (fun _ => kk ls hl)⟩
    next => cases hr
def i_iclt (t q : Nat) : gd_I := fun L st h => match st with
  | .int y :: .int x :: r => if x < y then nx t L r h else nx q L r h
  | _ => none
theorem sd_iclt {mt : Nat → gd_M} {M : gd_M} {pc q : Nat} {off : Int} {t : Nat} (hd : decode M.2.1 pc = .ok (.if_icmp .lt off, 3)) (ht9 : (pc : Int) + off = (t : Int)) (hq : pc + 3 = q) : Sd mt M pc (i_iclt t q) := by
  subst hq
  exact Sd.ps fun L st h r hr => by
    unfold i_iclt at hr
    split at hr
    next =>
      split at hr
      next hc => cases hr; exact ⟨_, _, _, rfl, fun G p l e R s m args below meth c Q Z hx hb ho ht hK H locs ls k1 n1 hH hl kk => lv_icmp_lt hx hb hd ht9 (fun _ => kk ls hl) (fun z => absurd hc z)⟩
      next hc => cases hr; exact ⟨_, _, _, rfl, fun G p l e R s m args below meth c Q Z hx hb ho ht hK H locs ls k1 n1 hH hl kk => lv_icmp_lt hx hb hd ht9 (fun z => absurd z hc) (fun _ => kk ls hl)⟩
    next => cases hr
def i_ifge (t q : Nat) : gd_I := fun L st h => match st with
  | .int x :: r => if 0 ≤ x then nx t L r h else nx q L r h
  | _ => none
theorem sd_ifge {mt : Nat → gd_M} {M : gd_M} {pc q : Nat} {off : Int} {t : Nat} (hd : decode M.2.1 pc = .ok (.ifCond .ge off, 3)) (ht9 : (pc : Int) + off = (t : Int)) (hq : pc + 3 = q) : Sd mt M pc (i_ifge t q) := by
  subst hq
  exact Sd.ps fun L st h r hr => by
    unfold i_ifge at hr
    split at hr
    next =>
      split at hr
      next hc => cases hr; exact ⟨_, _, _, rfl, fun G p l e R s m args below meth c Q Z hx hb ho ht hK H locs ls k1 n1 hH hl kk => lv_if_ge hx hb hd ht9 (fun _ => kk ls hl) (fun z => absurd hc z)⟩
      next hc => cases hr; exact ⟨_, _, _, rfl, fun G p l e R s m args below meth c Q Z hx hb ho ht hK H locs ls k1 n1 hH hl kk => lv_if_ge hx hb hd ht9 (fun z => absurd z hc) (fun _ => kk ls hl)⟩
    next => cases hr
def i_icge (t q : Nat) : gd_I := fun L st h => match st with
  | .int y :: .int x :: r => if y ≤ x then nx t L r h else nx q L r h
  | _ => none
theorem sd_icge {mt : Nat → gd_M} {M : gd_M} {pc q : Nat} {off : Int} {t : Nat} (hd : decode M.2.1 pc = .ok (.if_icmp .ge off, 3)) (ht9 : (pc : Int) + off = (t : Int)) (hq : pc + 3 = q) : Sd mt M pc (i_icge t q) := by
  subst hq
  exact Sd.ps fun L st h r hr => by
    unfold i_icge at hr
    split at hr
    next =>
      split at hr
      next hc => cases hr; exact ⟨_, _, _, rfl, fun G p l e R s m args below meth c Q Z hx hb ho ht hK H locs ls k1 n1 hH hl kk => lv_icmp_ge hx hb hd ht9 (fun _ => kk ls hl) (fun z => absurd hc z)⟩
      next hc => cases hr; exact ⟨_, _, _, rfl, fun G p l e R s m args below meth c Q Z hx hb ho ht hK H locs ls k1 n1 hH hl kk => lv_icmp_ge hx hb hd ht9 (fun z => absurd z hc) (fun _ => kk ls hl)⟩
    next => cases hr
def i_ifgt (t q : Nat) : gd_I := fun L st h => match st with
  | .int x :: r => if 0 < x then nx t L r h else nx q L r h
  | _ => none
theorem sd_ifgt {mt : Nat → gd_M} {M : gd_M} {pc q : Nat} {off : Int} {t : Nat} (hd : decode M.2.1 pc = .ok (.ifCond .gt off, 3)) (ht9 : (pc : Int) + off = (t : Int)) (hq : pc + 3 = q) : Sd mt M pc (i_ifgt t q) := by
  subst hq
  exact Sd.ps fun L st h r hr => by
    unfold i_ifgt at hr
    split at hr
    next =>
      split at hr
      next hc => cases hr; exact ⟨_, _, _, rfl, fun G p l e R s m args below meth c Q Z hx hb ho ht hK H locs ls k1 n1 hH hl kk => lv_if_gt hx hb hd ht9 (fun _ => kk ls hl) (fun z => absurd hc z)⟩
      next hc => cases hr; exact ⟨_, _, _, rfl, fun G p l e R s m args below meth c Q Z hx hb ho ht hK H locs ls k1 n1 hH hl kk => lv_if_gt hx hb hd ht9 (fun z => absurd z hc) (fun _ => kk ls hl)⟩
    next => cases hr
def i_icgt (t q : Nat) : gd_I := fun L st h => match st with
  | .int y :: .int x :: r => if y < x then nx t L r h else nx q L r h
  | _ => none
theorem sd_icgt {mt : Nat → gd_M} {M : gd_M} {pc q : Nat} {off : Int} {t : Nat} (hd : decode M.2.1 pc = .ok (.if_icmp .gt off, 3)) (ht9 : (pc : Int) + off = (t : Int)) (hq : pc + 3 = q) : Sd mt M pc (i_icgt t q) := by
  subst hq
  exact Sd.ps fun L st h r hr => by
    unfold i_icgt at hr
    split at hr
    next =>
      split at hr
      next hc => cases hr; exact ⟨_, _, _, rfl, fun G p l e R s m args below meth c Q Z hx hb ho ht hK H locs ls k1 n1 hH hl kk => lv_icmp_gt hx hb hd ht9 (fun _ => kk ls hl) (fun z => absurd hc z)⟩
      next hc => cases hr; exact ⟨_, _, _, rfl, fun G p l e R s m args below meth c Q Z hx hb ho ht hK H locs ls k1 n1 hH hl kk => lv_icmp_gt hx hb hd ht9 (fun z => absurd z hc) (fun _ => kk ls hl)⟩
    next => cases hr
def i_ifle (t q : Nat) : gd_I := fun L st h => match st with
  | .int x :: r => if x ≤ 0 then nx t L r h else nx q L r h
  | _ => none
theorem sd_ifle {mt : Nat → gd_M} {M : gd_M} {pc q : Nat} {off : Int} {t : Nat} (hd : decode M.2.1 pc = .ok (.ifCond .le off, 3)) (ht9 : (pc : Int) + off = (t : Int)) (hq : pc + 3 = q) : Sd mt M pc (i_ifle t q) := by
  subst hq
  exact Sd.ps fun L st h r hr => by
    unfold i_ifle at hr
    split at hr
    next =>
      split at hr
      next hc => cases hr; exact ⟨_, _, _, rfl, fun G p l e R s m args below meth c Q Z hx hb ho ht hK H locs ls k1 n1 hH hl kk => lv_if_le hx hb hd ht9 (fun _ => kk ls hl) (fun z => absurd hc z)⟩
      next hc => cases hr; exact ⟨_, _, _, rfl, fun G p l e R s m args below meth c Q Z hx hb ho ht hK H locs ls k1 n1 hH hl kk => lv_if_le hx hb hd ht9 (fun z => absurd z hc) (fun _ => kk ls hl)⟩
    next => cases hr
def i_icle (t q : Nat) : gd_I := fun L st h => match st with
  | .int y :: .int x :: r => if x ≤ y then nx t L r h else nx q L r h
  | _ => none
theorem sd_icle {mt : Nat → gd_M} {M : gd_M} {pc q : Nat} {off : Int} {t : Nat} (hd : decode M.2.1 pc = .ok (.if_icmp .le off, 3)) (ht9 : (pc : Int) + off = (t : Int)) (hq : pc + 3 = q) : Sd mt M pc (i_icle t q) := by
  subst hq
  exact Sd.ps fun L st h r hr => by
    unfold i_icle at hr
    split at hr
    next =>
      split at hr
      next hc => cases hr; exact ⟨_, _, _, rfl, fun G p l e R s m args below meth c Q Z hx hb ho ht hK H locs ls k1 n1 hH hl kk => lv_icmp_le hx hb hd ht9 (fun _ => kk ls hl) (fun z => absurd hc z)⟩
      next hc => cases hr; exact ⟨_, _, _, rfl, fun G p l e R s m args below meth c Q Z hx hb ho ht hK H locs ls k1 n1 hH hl kk => lv_icmp_le hx hb hd ht9 (fun z => absurd z hc) (fun _ => kk ls hl)⟩
    next => cases hr
def i_goto (t : Nat) : gd_I := fun L st h => nx t L st h
theorem sd_goto {mt : Nat → gd_M} {M : gd_M} {pc t : Nat} {off : Int} (hd : decode M.2.1 pc = .ok (.goto off, 3)) (ht9 : (pc : Int) + off = (t : Int)) : Sd mt M pc (i_goto t) := by
  exact Sd.ps fun L st h r hr => by
    cases hr
    exact ⟨_, _, _, rfl, fun G p l e R s m args below meth c Q Z hx hb ho ht hK H locs ls k1 n1 hH hl kk => lv_goto hx hb hd ht9 (kk ls hl)⟩
def i_ifnull (t q : Nat) : gd_I := fun L st h => match st with
  | .ref x :: r => if x = 0 then nx t L r h else if 4 ≤ x then nx q L r h else none
  | _ => none
theorem sd_ifnull {mt : Nat → gd_M} {M : gd_M} {pc q : Nat} {off : Int} {t : Nat} (hd : decode M.2.1 pc = .ok (.ifnull off, 3)) (ht9 : (pc : Int) + off = (t : Int)) (hq : pc + 3 = q) : Sd mt M pc (i_ifnull t q) := by
  subst hq
  exact Sd.ps fun L st h r hr => by
    unfold i_ifnull at hr
    split at hr
    next x r9 =>
      split at hr
      next hc => cases hr; exact ⟨_, _, _, rfl, fun G p l e R s m args below meth c Q Z hx hb ho ht hK H locs ls k1 n1 hH hl kk => by rw [List.map_cons, hc, vf_0 Z]; exact lv_ifnullN hx hb hd ht9 (kk ls hl)⟩
      next hc =>
        split at hr
        next h4 => cases hr; exact ⟨_, _, _, rfl, fun G p l e R s m args below meth c Q Z hx hb ho ht hK H locs ls k1 n1 hH hl kk => by rw [List.map_cons, vf_hi G h4]; exact lv_ifnull hx hb hd (kk ls hl)⟩
        next => cases hr
    next => cases hr
def i_ifnonnull (t q : Nat) : gd_I := fun L st h => match st with
  | .ref x :: r => if x = 0 then nx q L r h else if 4 ≤ x then nx t L r h else none
  | _ => none
theorem sd_ifnonnull {mt : Nat → gd_M} {M : gd_M} {pc q : Nat} {off : Int} {t : Nat} (hd : decode M.2.1 pc = .ok (.ifnonnull off, 3)) (ht9 : (pc : Int) + off = (t : Int)) (hq : pc + 3 = q) : Sd mt M pc (i_ifnonnull t q) := by
  subst hq
  exact Sd.ps fun L st h r hr => by
    unfold i_ifnonnull at hr
    split at hr
    next x r9 =>
      split at hr
      next hc => cases hr; exact ⟨_, _, _, rfl, fun G p l e R s m args below meth c Q Z hx hb ho ht hK H locs ls k1 n1 hH hl kk => by rw [List.map_cons, hc, vf_0 Z]; exact lv_ifnonnullN hx hb hd (kk ls hl)⟩
      next hc =>
        split at hr
        next h4 => cases hr; exact ⟨_, _, _, rfl, fun G p l e R s m args below meth c Q Z hx hb ho ht hK H locs ls k1 n1 hH hl kk => by rw [List.map_cons, vf_hi G h4]; exact lv_ifnonnull hx hb hd ht9 (kk ls hl)⟩
        next => cases hr
    next => cases hr
def swt : List (Int32 × Nat) → Nat → Int32 → Nat
  | [], d, _ => d
  | (c, t) :: r, d, x => if x = c then t else swt r d x
def i_sw (cs : List (Int32 × Nat)) (d : Nat) : gd_I := fun L st h => match st with
  | .int x :: r => nx (swt cs d x) L r h
  | _ => none
def swokT (pc : Nat) : Int → List Int → List (Int32 × Nat) → Bool
  | _, [], [] => true
  | lo, o :: os, (c, t) :: cs => decide (c.toInt = lo) && (decide ((pc : Int) + o = (t : Int)) && swokT pc (lo + 1) os cs)
  | _, _, _ => false
theorem swt_T {pc d : Nat} : ∀ {lo : Int} {os : List Int} {cs : List (Int32 × Nat)} {x : Int32}, swokT pc lo os cs = true →
    (x.toInt < lo ∨ lo + os.length - 1 < x.toInt → swt cs d x = d) ∧ (¬ x.toInt < lo → ¬ lo + os.length - 1 < x.toInt → ∃ o, os[(x.toInt - lo).toNat]? = some o ∧ (pc : Int) + o = (swt cs d x : Int))
  | lo, [], [], x, _ => ⟨fun _ => rfl, fun h1 h2 => by simp at h2; omega⟩
  | lo, [], _ :: _, x, h => by simp [swokT] at h
  | lo, _ :: _, [], x, h => by simp [swokT] at h
  | lo, o :: os, (c, t) :: cs, x, h => by
    simp only [swokT, Bool.and_eq_true, decide_eq_true_eq] at h
    obtain ⟨h1, h2, h3⟩ := h
    obtain ⟨k1, k2⟩ := swt_T (d := d) (x := x) h3
    simp only [List.length_cons]
    refine ⟨fun q => ?_, fun q1 q2 => ?_⟩
    · have hne : x ≠ c := fun e => by rw [e, h1] at q; omega
      simp only [swt, if_neg hne]
      exact k1 (by omega)
    · by_cases e : x = c
      · refine ⟨o, ?_, ?_⟩
        · rw [e, h1, show (lo - lo).toNat = 0 by omega]; rfl
        · simp only [swt, if_pos e]; exact h2
      · have hne : x.toInt ≠ lo := fun z => e (Int32.toInt_inj.mp (z.trans h1.symm))
        obtain ⟨o2, e1, e2⟩ := k2 (by omega) (by omega)
        refine ⟨o2, ?_, ?_⟩
        · rw [show (x.toInt - lo).toNat = (x.toInt - (lo + 1)).toNat + 1 by omega]
          exact e1
        · simp only [swt, if_neg e]; exact e2
theorem sd_tsw {mt : Nat → gd_M} {M : gd_M} {pc d len : Nat} {dflt lo hi : Int} {offs : Array Int} {cs : List (Int32 × Nat)} (hd : decode M.2.1 pc = .ok (.tableswitch dflt lo hi offs, len)) (hs : swokT pc lo offs.toList cs = true) (hh : lo + offs.toList.length - 1 = hi) (hdf : (pc : Int) + dflt = (d : Int)) : Sd mt M pc (i_sw cs d) := by
  exact Sd.ps fun L st h r hr => by
    unfold i_sw at hr
    split at hr
    next x r9 => cases hr; exact ⟨_, _, _, rfl, fun G p l e R s m args below meth c Q Z hx hb ho ht hK H locs ls k1 n1 hH hl kk => by
      obtain ⟨k1, k2⟩ := swt_T (d := d) (x := x) hs
      by_cases c1 : x.toInt < lo
      · exact lv_tableOut hx hb hd (Or.inl c1) (by rw [k1 (Or.inl c1)]; exact hdf) (kk ls hl)
      · by_cases c2 : hi < x.toInt
        · exact lv_tableOut hx hb hd (Or.inr c2) (by rw [k1 (Or.inr (by omega))]; exact hdf) (kk ls hl)
        · obtain ⟨o, e1, e2⟩ := k2 c1 (by omega)
          exact lv_tableIn hx hb hd c1 c2 (by rw [← Array.getElem?_toList]; exact e1) e2 (kk ls hl)⟩
    next => cases hr
def swokL (pc : Nat) : List (Int × Int) → List (Int32 × Nat) → Bool
  | [], [] => true
  | (a, o) :: ps, (c, t) :: cs => decide (c.toInt = a) && (decide ((pc : Int) + o = (t : Int)) && swokL pc ps cs)
  | _, _ => false
theorem swt_L {pc d : Nat} {dflt : Int} (hdf : (pc : Int) + dflt = (d : Int)) : ∀ {ps : List (Int × Int)} {cs : List (Int32 × Nat)} {x : Int32}, swokL pc ps cs = true → (pc : Int) + Op.lookupswitch.offset ps dflt x.toInt = (swt cs d x : Int)
  | [], [], x, _ => hdf
  | [], _ :: _, x, h => by simp [swokL] at h
  | _ :: _, [], x, h => by simp [swokL] at h
  | (a, o) :: ps, (c, t) :: cs, x, h => by
    simp only [swokL, Bool.and_eq_true, decide_eq_true_eq] at h
    obtain ⟨h1, h2, h3⟩ := h
    rw [Op.lookupswitch.offset_cons]
    by_cases e : x = c
    · rw [if_pos (by rw [e, h1]), h2]
      simp only [swt, if_pos e]
    · rw [if_neg (fun z => e (Int32.toInt_inj.mp (z.symm.trans h1.symm)))]
      simp only [swt, if_neg e]
      exact swt_L hdf h3
theorem sd_lsw {mt : Nat → gd_M} {M : gd_M} {pc d len : Nat} {dflt : Int} {ps : Array (Int × Int)} {cs : List (Int32 × Nat)} (hd : decode M.2.1 pc = .ok (.lookupswitch dflt ps, len)) (hp : (ps.toList.zip (ps.toList.drop 1)).all (fun (a, next) => a.1 < next.1) = true) (hs : swokL pc ps.toList cs = true) (hdf : (pc : Int) + dflt = (d : Int)) : Sd mt M pc (i_sw cs d) := by
  exact Sd.ps fun L st h r hr => by
    unfold i_sw at hr
    split at hr
    next x r9 => cases hr; exact ⟨_, _, _, rfl, fun G p l e R s m args below meth c Q Z hx hb ho ht hK H locs ls k1 n1 hH hl kk => lv_lookup hx hb hd hp rfl (swt_L hdf hs) (kk ls hl)⟩
    next => cases hr
theorem sd_gets {mt : Nat → gd_M} {M : gd_M} {pc q : Nat} {i : Nat} {C n dd : String} {v : Value} (hd : decode M.2.1 pc = .ok (.getstatic i, 3)) (hlk : Cond.fieldLink M.1.cls i C n dd ∈ lw_all) (hz : ∀ G s, KN G s → va_Z C n dd (vf G v) (gd_A G) s (g_H G)) (hq : pc + 3 = q) : Sd mt M pc (i_psh v q) := by
  subst hq
  exact Sd.ps fun L st h r hr => by
    cases hr
    exact ⟨_, _, _, rfl, fun G p l e R s m args below meth c Q Z hx hb ho ht hK H locs ls k1 n1 hH hl kk => by
      obtain ⟨cf, kf, fi, f, a, cell, h1, h2, h3, h4, h5, h6, h7, h8⟩ := hz G s hK
      have hlt : a < g_b G := (Array.getElem?_eq_some_iff.mp h5).1
      exact W.gets hx hb ho (ht _ hlk) h1 h2 h3 h4 (by rw [hH a hlt]; exact h5) (fun e => by rw [e] at h6; cases h6) h7 rfl hd (kk ls hl)⟩

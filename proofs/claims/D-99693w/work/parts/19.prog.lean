/-! ===== THE PROGRAM: its methods, their code as instructions, each sound ===== -/
set_option maxRecDepth 100000
def i_stk : gd_I := fun _ _ _ => none
theorem sd_stk {mt : Nat → gd_M} {M : gd_M} {pc : Nat} : Sd mt M pc i_stk := ⟨fun L st h r hr => (by cases hr), fun G l d C hC p e R s m args below meth c Q zf uf z0 u0 cx L st h r hr => (by cases hr)⟩
def i_mmax (q : Nat) : gd_I := fun L st h => match st with
  | .int y :: .int x :: r => if r.length ≤ 8 then nx q L (.int (if x < y then y else x) :: r) h else none
  | _ => none
theorem sd_mmax {mt : Nat → gd_M} {M : gd_M} {pc q i : Nat} (hlk : Cond.methodLink M.1.cls i Lib.Math.max.name ∈ lw_all) (hst : Cond.static Lib.Math.max.name ∈ lw_all) (hini : Cond.initialized "java/lang/Math" ∈ lw_all) (hco : Cond.code Lib.Math.max.name Lib.Math.max.code 2 (some .int) ∈ lw_all) (hd : decode M.2.1 pc = .ok (.invokestatic i, 3)) (hq : pc + 3 = q) : Sd mt M pc (i_mmax q) := by
  subst hq
  exact Sd.hs fun L st h r hr => by
    unfold i_mmax at hr
    split at hr
    next y x r9 =>
      split at hr
      next hl9 => cases hr; exact ⟨_, _, _, rfl, Nat.le_refl _, Nat.le_refl _, fun G p l e R s m args below meth c Q d zf uf z0 u0 cx a1 a2 H locs ls k1 n1 hR hl hls e1 e2 kk => by
        obtain ⟨hx, hb, hml, hr, hown, hts, hK, -, -, -, -, hfr, hlo, hz, hu⟩ := cx
        have h8 := gd_sum8 hK.1 r9 8 hl9
        exact va_mmax hx hb (by rw [hml]; exact hls.1.symm) hown (hts _ hlk) (hts _ hst) (hts _ hini) (hts _ hco) (by omega) (by omega) (by omega) (by omega) hd (kk H locs k1 n1 hR hl e1 e2)⟩
      next => cases hr
    next => cases hr
def i_mmin (q : Nat) : gd_I := fun L st h => match st with
  | .int y :: .int x :: r => if r.length ≤ 8 then nx q L (.int (if y < x then y else x) :: r) h else none
  | _ => none
theorem sd_mmin {mt : Nat → gd_M} {M : gd_M} {pc q i : Nat} (hlk : Cond.methodLink M.1.cls i Lib.Math.min.name ∈ lw_all) (hst : Cond.static Lib.Math.min.name ∈ lw_all) (hini : Cond.initialized "java/lang/Math" ∈ lw_all) (hco : Cond.code Lib.Math.min.name Lib.Math.min.code 2 (some .int) ∈ lw_all) (hd : decode M.2.1 pc = .ok (.invokestatic i, 3)) (hq : pc + 3 = q) : Sd mt M pc (i_mmin q) := by
  subst hq
  exact Sd.hs fun L st h r hr => by
    unfold i_mmin at hr
    split at hr
    next y x r9 =>
      split at hr
      next hl9 => cases hr; exact ⟨_, _, _, rfl, Nat.le_refl _, Nat.le_refl _, fun G p l e R s m args below meth c Q d zf uf z0 u0 cx a1 a2 H locs ls k1 n1 hR hl hls e1 e2 kk => by
        obtain ⟨hx, hb, hml, hr, hown, hts, hK, -, -, -, -, hfr, hlo, hz, hu⟩ := cx
        have h8 := gd_sum8 hK.1 r9 8 hl9
        exact va_mmin hx hb (by rw [hml]; exact hls.1.symm) hown (hts _ hlk) (hts _ hst) (hts _ hini) (hts _ hco) (by omega) (by omega) (by omega) (by omega) hd (kk H locs k1 n1 hR hl e1 e2)⟩
      next => cases hr
    next => cases hr
def i_mabs (q : Nat) : gd_I := fun L st h => match st with
  | .int x :: r => if r.length ≤ 8 then nx q L (.int (if 0 ≤ x then x else 0 - x) :: r) h else none
  | _ => none
theorem sd_mabs {mt : Nat → gd_M} {M : gd_M} {pc q i : Nat} (hlk : Cond.methodLink M.1.cls i Lib.Math.abs.name ∈ lw_all) (hst : Cond.static Lib.Math.abs.name ∈ lw_all) (hini : Cond.initialized "java/lang/Math" ∈ lw_all) (hco : Cond.code Lib.Math.abs.name Lib.Math.abs.code 1 (some .int) ∈ lw_all) (hd : decode M.2.1 pc = .ok (.invokestatic i, 3)) (hq : pc + 3 = q) : Sd mt M pc (i_mabs q) := by
  subst hq
  exact Sd.hs fun L st h r hr => by
    unfold i_mabs at hr
    split at hr
    next x r9 =>
      split at hr
      next hl9 => cases hr; exact ⟨_, _, _, rfl, Nat.le_refl _, Nat.le_refl _, fun G p l e R s m args below meth c Q d zf uf z0 u0 cx a1 a2 H locs ls k1 n1 hR hl hls e1 e2 kk => by
        obtain ⟨hx, hb, hml, hr, hown, hts, hK, -, -, -, -, hfr, hlo, hz, hu⟩ := cx
        have h8 := gd_sum8 hK.1 r9 8 hl9
        exact va_mabs hx hb (by rw [hml]; exact hls.1.symm) hown (hts _ hlk) (hts _ hst) (hts _ hini) (hts _ hco) (by omega) (by omega) (by omega) (by omega) hd (kk H locs k1 n1 hR hl e1 e2)⟩
      next => cases hr
    next => cases hr
def lkI : List (Nat × gd_I) → Nat → gd_I
  | [], _ => i_stk
  | (p, i) :: r, n => if n = p then i else lkI r n
theorem sd_lk {mt : Nat → gd_M} {M : gd_M} : ∀ {l : List (Nat × gd_I)}, (∀ q ∈ l, Sd mt M q.1 q.2) → ∀ pc, Sd mt M pc (lkI l pc)
  | [], _, pc => sd_stk
  | (p, i) :: r, h, pc => by
    unfold lkI
    split
    next e => rw [e]; exact h (p, i) List.mem_cons_self
    next => exact sd_lk (fun q hq => h q (List.mem_cons_of_mem _ hq)) pc
theorem gd_ac {P : Nat × gd_I → Prop} {a : Nat × gd_I} {l : List (Nat × gd_I)} (h : P a) (t : ∀ q ∈ l, P q) : ∀ q ∈ a :: l, P q := List.forall_mem_cons.mpr ⟨h, t⟩
theorem gd_an {P : Nat × gd_I → Prop} : ∀ q ∈ ([] : List (Nat × gd_I)), P q := fun q h => nomatch h
theorem gd_cw0 {M : gd_M} (h : M.2.2.2.2 = []) (q : Cond.code M.1 M.2.1 M.2.2.1 M.2.2.2.1 ∈ lw_all) : gd_cw M := by
  unfold gd_cw; rw [if_pos h]; exact q
theorem gd_cw1 {M : gd_M} (h : M.2.2.2.2 ≠ []) (q : Cond.codeWith M.1 M.2.1 M.2.2.1 M.2.2.2.1 M.2.2.2.2 ∈ lw_all) : gd_cw M := by
  unfold gd_cw; rw [if_neg h]; exact q
/-- what every call of M' asks -/
def gd_cal (M' : gd_M) : Prop := gd_cw M' ∧ Cond.initialized M'.1.cls ∈ lw_all ∧ (M'.1.cls ≠ "java/lang/invoke/MethodHandle" ∧ M'.1.cls ≠ "java/lang/invoke/VarHandle") ∧ (∃ n, (parseMethodDescriptor M'.1.desc).map (fun d => d.parameters.length) = some n) ∧ M'.2.2.1 ≤ 40
def gd_np (M' : gd_M) : Nat := ((parseMethodDescriptor M'.1.desc).map (fun d => d.parameters.length)).getD 0
theorem gd_cal.ca {M M' : gd_M} {i n : Nat} (h : gd_cal M') (hl : Cond.methodLink M.1.cls i M'.1 ∈ lw_all) (hn : (parseMethodDescriptor M'.1.desc).map (fun d => d.parameters.length) = some n) : gd_ca M M' i n := ⟨hl, h.1, h.2.1, h.2.2.1, hn, h.2.2.2.2⟩

theorem sd_cV2 {mt : Nat → gd_M} {M M' : gd_M} {pc q k' n t i : Nat} {w : vw_C} (hk : mt k' = M') (hc : gd_cal M' ∧ (parseMethodDescriptor M'.1.desc).map (fun d => d.parameters.length) = some n) (hl : Cond.methodLink M.1.cls i M'.1 ∈ lw_all) (hin : Cond.instanceMethod M'.1 ∈ lw_all) (hcl : gd_cl t = some w) (hse : Cond.selects w.1 M'.1 M'.1 ∈ lw_all) (hd : decode M.2.1 pc = .ok (.invokevirtual i, 3)) (hq : pc + 3 = q) : Sd mt M pc (i_cV k' n t q) := by
  subst hk; exact sd_cV (hc.1.ca hl hc.2) hin hcl hse hd hq
theorem sd_cVs2 {mt : Nat → gd_M} {M M' : gd_M} {pc q k' n i : Nat} (hk : mt k' = M') (hc : gd_cal M' ∧ (parseMethodDescriptor M'.1.desc).map (fun d => d.parameters.length) = some n) (hl : Cond.methodLink M.1.cls i M'.1 ∈ lw_all) (hin : Cond.instanceMethod M'.1 ∈ lw_all) (hse : Cond.selects "java/lang/String" M'.1 M'.1 ∈ lw_all) (hd : decode M.2.1 pc = .ok (.invokevirtual i, 3)) (hq : pc + 3 = q) : Sd mt M pc (i_cVs k' n q) := by
  subst hk; exact sd_cVs (hc.1.ca hl hc.2) hin hse hd hq
theorem sd_cS2 {mt : Nat → gd_M} {M M' : gd_M} {pc q k' n i : Nat} (hk : mt k' = M') (hc : gd_cal M' ∧ (parseMethodDescriptor M'.1.desc).map (fun d => d.parameters.length) = some n) (hl : Cond.methodLink M.1.cls i M'.1 ∈ lw_all) (hst : Cond.static M'.1 ∈ lw_all) (hd : decode M.2.1 pc = .ok (.invokestatic i, 3)) (hq : pc + 3 = q) : Sd mt M pc (i_cS k' n q) := by
  subst hk; exact sd_cS (hc.1.ca hl hc.2) hst hd hq
theorem sd_cI2 {mt : Nat → gd_M} {M M' : gd_M} {pc q k' n t i : Nat} {w : vw_C} (hk : mt k' = M') (hc : gd_cal M' ∧ (parseMethodDescriptor M'.1.desc).map (fun d => d.parameters.length) = some n) (hl : Cond.methodLink M.1.cls i M'.1 ∈ lw_all) (hnm : M'.1.name = "<init>") (hret : M'.2.2.2.1 = none) (hhh : M'.2.2.2.2 = []) (hin : Cond.instanceMethod M'.1 ∈ lw_all) (hcl : gd_cl t = some w) (hd : decode M.2.1 pc = .ok (.invokespecial i, 3)) (hq : pc + 3 = q) : Sd mt M pc (i_cV k' n t q) := by
  subst hk; exact sd_cI (hc.1.ca hl hc.2) hnm hret hhh hin hcl hd hq
theorem sd_cIN2 {mt : Nat → gd_M} {M M' : gd_M} {pc q k' n t i : Nat} {w : vw_C} {host : String} (hk : mt k' = M') (hc : gd_cal M' ∧ (parseMethodDescriptor M'.1.desc).map (fun d => d.parameters.length) = some n) (hl : Cond.methodLinkNest M.1.cls i M'.1 host ∈ lw_tbl) (hnm : M'.1.name = "<init>") (hret : M'.2.2.2.1 = none) (hhh : M'.2.2.2.2 = []) (hin : Cond.instanceMethod M'.1 ∈ lw_all) (hcl : gd_cl t = some w) (hd : decode M.2.1 pc = .ok (.invokespecial i, 3)) (hq : pc + 3 = q) : Sd mt M pc (i_cV k' n t q) := by
  subst hk; exact sd_cIN hl hc.1.1 hc.1.2.1 hc.1.2.2.1 hc.2 hc.1.2.2.2.2 hnm hret hhh hin hcl hd hq
theorem ck1 : gd_cls 1 (RX1, TX1, 23) := ⟨rfl, in_X1, tyX1_ok, nmX1⟩
theorem ck2 : gd_cls 2 (RX2, TX2, 1) := ⟨rfl, in_X2, tyX2_ok, nmX2⟩
theorem ck3 : gd_cls 3 (RX3, TX3, 2) := ⟨rfl, in_X3, tyX3_ok, nmX3⟩
theorem ck4 : gd_cls 4 (RX4, TX4, 14) := ⟨rfl, in_X4, tyX4_ok, nmX4⟩
theorem ck5 : gd_cls 5 (RX5, TX5, 8) := ⟨rfl, in_X5, tyX5_ok, nmX5⟩
theorem ck6 : gd_cls 6 (RX6, TX6, 8) := ⟨rfl, in_X6, tyX6_ok, nmX6⟩
theorem ck7 : gd_cls 7 (RX7, TX7, 4) := ⟨rfl, in_X7, tyX7_ok, nmX7⟩
theorem ck8 : gd_cls 8 (RX8, TX8, 57) := ⟨rfl, in_X8, tyX8_ok, nmX8⟩
theorem ck9 : gd_cls 9 (RX9, TX9, 4) := ⟨rfl, in_X9, tyX9_ok, nmX9⟩
theorem ck10 : gd_cls 10 (RX10, TX10, 4) := ⟨rfl, in_X10, tyX10_ok, nmX10⟩
theorem ck11 : gd_cls 11 (RX11, TX11, 8) := ⟨rfl, in_X11, tyX11_ok, nmX11⟩
theorem ck12 : gd_cls 12 (RX12, TX12, 2) := ⟨rfl, in_X12, tyX12_ok, nmX12⟩
theorem ck13 : gd_cls 13 (RX13, TX13, 3) := ⟨rfl, in_X13, tyX13_ok, nmX13⟩
theorem ck14 : gd_cls 14 (RX14, TX14, 1) := ⟨rfl, in_X14, tyX14_ok, nmX14⟩
theorem ck15 : gd_cls 15 (RX15, TX15, 1) := ⟨rfl, in_X15, tyX15_ok, nmX15⟩
theorem ck16 : gd_cls 16 (RX16, TX16, 3) := ⟨rfl, in_X16, tyX16_ok, nmX16⟩
theorem ck18 : gd_cls 18 (RX18, TX18, 3) := ⟨rfl, in_X18, tyX18_ok, nmX18⟩
theorem ck19 : gd_cls 19 (RX19, TX19, 2) := ⟨rfl, in_X19, tyX19_ok, nmX19⟩
theorem ck20 : gd_cls 20 (RX20, TX20, 3) := ⟨rfl, in_X20, tyX20_ok, nmX20⟩
theorem ck22 : gd_cls 22 (RX22, TX22, 4) := ⟨rfl, in_X22, tyX22_ok, nmX22⟩
theorem ck21 : gd_cls 21 (RX21, TX9, 0) := ⟨rfl, (fun w (h : w ∈ ([] : List Cond)) => nomatch h), (fun k h => absurd h (Nat.not_lt_zero k)), (fun a h => absurd h (Nat.not_lt_zero a))⟩
theorem gd_oi1 : Cond.instanceMethod Lib.objectInit ∈ lw_all := q126
theorem gd_oi2 : Cond.code Lib.objectInit ⟨#[0xb1]⟩ 1 none ∈ lw_all := q127
theorem gd_as35 : ∀ t' ∈ ([4] : List Nat), ∃ r : vw_C, gd_cl t' = some r ∧ (r.1 = RX4 ∨ Cond.castable r.1 RX4 ∈ lw_tbl) := fun t' h => by
  rw [List.mem_singleton.mp h]
  exact ⟨_, rfl, Or.inl rfl⟩
theorem gd_as36 : ∀ t' ∈ ([3] : List Nat), ∃ r : vw_C, gd_cl t' = some r ∧ (r.1 = RX3 ∨ Cond.castable r.1 RX3 ∈ lw_tbl) := fun t' h => by
  rw [List.mem_singleton.mp h]
  exact ⟨_, rfl, Or.inl rfl⟩
theorem gd_as37 : ∀ t' ∈ ([18, 19, 20, 21] : List Nat), ∃ r : vw_C, gd_cl t' = some r ∧ (r.1 = RX17 ∨ Cond.castable r.1 RX17 ∈ lw_tbl) := by
  refine List.forall_mem_cons.mpr ⟨⟨_, rfl, Or.inr q2079⟩, List.forall_mem_cons.mpr ⟨⟨_, rfl, Or.inr q2080⟩, List.forall_mem_cons.mpr ⟨⟨_, rfl, Or.inr q2081⟩, List.forall_mem_cons.mpr ⟨⟨_, rfl, Or.inr q2082⟩, fun t h => nomatch h⟩⟩⟩⟩
def gd_nms : List String := ["java/lang/RuntimeException", "java/lang/Exception"]
theorem gd_fitn : ∀ n ∈ gd_nms, Bundle.fit n = true := by decide +kernel
theorem gd_fit24 : Bundle.fit RJ9 = true := by decide +kernel
theorem gd_fit25 : Bundle.fit RJ3 = true := by decide +kernel
theorem gd_at0_24 : ∀ x ∈ vx_at0 RX1 101 RJ9 gd_nms, x ∈ lw_tbl ∧ (goodWord x = true ∨ (gd_xw x = true ∧ x.onTables = true)) := by
  have h1 : vx_at0 RX1 101 RJ9 gd_nms = ([95, 539, 548, 552, 555, 557, 540, 541, 126, 127, 542, 547, 553, 570, 529, 571, 531, 572, 533, 543, 545, 535, 1210, 1211, 1212, 562, 520, 562, 563, 564, 565, 522, 565, 566, 567, 540, 524, 1209, 1201, 1202, 1203, 551, 1204, 1205, 1206, 1207, 538, 537, 1208] : List Nat).filterMap (fun i => lw_tbl[i]?) := by decide +kernel
  have h2 : (vx_at0 RX1 101 RJ9 gd_nms).all (fun x => goodWord x || (gd_xw x && x.onTables)) = true := by decide +kernel
  intro x hx
  refine ⟨?_, ?_⟩
  · rw [h1] at hx
    obtain ⟨i, -, hi⟩ := List.mem_filterMap.mp hx
    exact List.mem_of_getElem? hi
  · have h3 := List.all_eq_true.mp h2 x hx
    simpa using h3
theorem gd_at0_25 : ∀ x ∈ vx_at0 RX1 104 RJ3 gd_nms, x ∈ lw_tbl ∧ (goodWord x = true ∨ (gd_xw x = true ∧ x.onTables = true)) := by
  have h1 : vx_at0 RX1 104 RJ3 gd_nms = ([95, 539, 548, 552, 555, 557, 540, 541, 126, 127, 542, 547, 553, 570, 529, 571, 531, 572, 533, 543, 545, 535, 559, 560, 561, 562, 520, 562, 563, 564, 565, 522, 565, 566, 567, 540, 524, 558, 518, 519, 526, 527, 528, 530, 532, 534, 538, 537, 536] : List Nat).filterMap (fun i => lw_tbl[i]?) := by decide +kernel
  have h2 : (vx_at0 RX1 104 RJ3 gd_nms).all (fun x => goodWord x || (gd_xw x && x.onTables)) = true := by decide +kernel
  intro x hx
  refine ⟨?_, ?_⟩
  · rw [h1] at hx
    obtain ⟨i, -, hi⟩ := List.mem_filterMap.mp hx
    exact List.mem_of_getElem? hi
  · have h3 := List.all_eq_true.mp h2 x hx
    simpa using h3
def M0 : gd_M := (yJ0_init_2, cJ0_init_2, 5, none, [])
def M1 : gd_M := (yJ1_init_2, cJ1_init_2, 5, none, [])
def M2 : gd_M := (yJ10_bitCount, cJ10_bitCount, 1, (some .int), [])
def M3 : gd_M := (yJ10_numberOfTrailingZeros, cJ10_numberOfTrailingZeros, 2, (some .int), [])
def M4 : gd_M := (yJ10_signum, cJ10_signum, 1, (some .int), [])
def M5 : gd_M := (yJ4_length, cJ4_length, 1, (some .int), [])
def M6 : gd_M := (yJ4_coder, cJ4_coder, 1, (some .byte), [])
def M7 : gd_M := (yJ4_charAt, cJ4_charAt, 2, (some .char), [])
def M8 : gd_M := (yJ4_isLatin1, cJ4_isLatin1, 1, (some .boolean), [])
def M9 : gd_M := (yJ4_checkIndex, cJ4_checkIndex, 2, none, [])
def M10 : gd_M := (yJ5_charAt, cJ5_charAt, 2, (some .char), [])
def M11 : gd_M := (yJ6_checkIndex, cJ6_checkIndex, 3, (some .int), [])
def M12 : gd_M := (x, cL_law, 8, (some .boolean), [])
def M13 : gd_M := (yX0_school, cX0_school, 4, (some .int), [(0, 9, 12, 13)])
def M14 : gd_M := (yX0_law, cX0_law, 4, (some .int), [(0, 9, 12, 13)])
def M15 : gd_M := (yX0_work, cX0_work, 4, (some .int), [(0, 9, 12, 13)])
def M16 : gd_M := (yX0_book, cX0_book, 4, (some .int), [(0, 9, 12, 13)])
def M17 : gd_M := (yX0_told, cX0_told, 4, (some .int), [(0, 9, 12, 13)])
def M18 : gd_M := (yX0_board, cX0_board, 5, (some .int), [(0, 10, 13, 31), (0, 10, 17, 13)])
def M19 : gd_M := (yX0_boy, cX0_boy, 5, (some .int), [(0, 10, 13, 31), (0, 10, 17, 13)])
def M20 : gd_M := (yX0_grows, cX0_grows, 4, (some .int), [(0, 9, 12, 31)])
def M21 : gd_M := (yX0_would, cX0_would, 11, (some .int), [(0, 22, 25, 13)])
def M22 : gd_M := (yX0_ahead, cX0_ahead, 5, (some .int), [(0, 10, 13, 13)])
def M23 : gd_M := (yX0_passes, cX0_passes, 5, (some .int), [(0, 10, 13, 31), (0, 10, 17, 13)])
def M24 : gd_M := (yX0_feeds, cX0_feeds, 5, (some .int), [(0, 10, 13, 31), (0, 10, 17, 13)])
def M25 : gd_M := (yX0_mate, cX0_mate, 4, (some .int), [(0, 9, 12, 31)])
def M26 : gd_M := (yX0_rung, cX0_rung, 4, (some .int), [(0, 9, 12, 13)])
def M27 : gd_M := (yX0_fits, cX0_fits, 5, (some .int), [(0, 10, 13, 31), (0, 10, 17, 13)])
def M28 : gd_M := (yX0_look, cX0_look, 5, (some .int), [(0, 10, 13, 31), (0, 10, 17, 13)])
def M29 : gd_M := (yX0_run, cX0_run, 7, (some .int), [(0, 13, 16, 13)])
def M30 : gd_M := (yX0_planes, cX0_planes, 6, (some .int), [(0, 12, 15, 13)])
def M31 : gd_M := (yX0_chairs, cX0_chairs, 6, (some .int), [(0, 12, 15, 31), (0, 12, 19, 13)])
def M32 : gd_M := (yX0_tallest, cX0_tallest, 4, (some .int), [(0, 9, 12, 13)])
def M33 : gd_M := (yX0_gained, cX0_gained, 4, (some .int), [(0, 9, 12, 13)])
def M34 : gd_M := (yX0_lies, cX0_lies, 4, (some .int), [(0, 9, 12, 13)])
def M35 : gd_M := (yX0_swells, cX0_swells, 4, (some .int), [(0, 9, 12, 31)])
def M36 : gd_M := (yX0_sinks, cX0_sinks, 4, (some .int), [(0, 9, 12, 31)])
def M37 : gd_M := (yX0_heads, cX0_heads, 4, (some .int), [(0, 9, 12, 13)])
def M38 : gd_M := (yX0_driest, cX0_driest, 4, (some .int), [(0, 9, 12, 13)])
def M39 : gd_M := (yX0_decade, cX0_decade, 7, (some .int), [(0, 14, 17, 13)])
def M40 : gd_M := (yX0_span, cX0_span, 9, (some .int), [(0, 18, 21, 13)])
def M41 : gd_M := (yX1_init, cX1_init, 1, none, [])
def M42 : gd_M := (yX1_feed, cX1_feed, 8, (some .int), [])
def M43 : gd_M := (yX1_fault, cX1_fault, 1, (some .int), [])
def M44 : gd_M := (yX1_undo, cX1_undo, 1, (some .int), [])
def M45 : gd_M := (yX1_mates, cX1_mates, 1, (some .int), [])
def M46 : gd_M := (yX1_ladder, cX1_ladder, 1, (some .int), [])
def M47 : gd_M := (yX1_climbs, cX1_climbs, 6, (some .int), [])
def M48 : gd_M := (yX1_image, cX1_image, 1, (some .int), [])
def M49 : gd_M := (yX1_restore, cX1_restore, 1, (some .int), [])
def M50 : gd_M := (yX1_status, cX1_status, 2, (some .int), [])
def M51 : gd_M := (yX1_count, cX1_count, 2, (some .int), [])
def M52 : gd_M := (yX1_school, cX1_school, 3, (some .int), [(10, 29, 32, 124)])
def M53 : gd_M := (yX1_within, cX1_within, 4, none, [])
def M54 : gd_M := (yX1_reader, cX1_reader, 2, (some (.object "GrowingDoor$Reader")), [])
def M55 : gd_M := (yX1_faulty, cX1_faulty, 2, (some .int), [])
def M56 : gd_M := (yX1_law, cX1_law, 3, (some .int), [(16, 38, 41, 124)])
def M57 : gd_M := (yX1_work, cX1_work, 5, (some .int), [(43, 63, 66, 124)])
def M58 : gd_M := (yX1_book, cX1_book, 9, (some .int), [(28, 147, 150, 124)])
def M59 : gd_M := (yX1_told, cX1_told, 5, (some .int), [])
def M60 : gd_M := (yX1_board, cX1_board, 6, (some .int), [])
def M61 : gd_M := (yX1_boardOf, cX1_boardOf, 2, none, [])
def M62 : gd_M := (yX1_oneOf, cX1_oneOf, 3, none, [])
def M63 : gd_M := (yX1_boy, cX1_boy, 4, (some .int), [])
def M64 : gd_M := (yX1_boyOf, cX1_boyOf, 2, none, [])
def M65 : gd_M := (yX1_grows, cX1_grows, 2, (some .int), [])
def M66 : gd_M := (yX1_would, cX1_would, 9, (some .int), [])
def M67 : gd_M := (yX1_ahead, cX1_ahead, 4, (some .int), [])
def M68 : gd_M := (yX1_tried, cX1_tried, 1, (some (.object "GrowingDoor$State")), [])
def M69 : gd_M := (yX1_passes, cX1_passes, 4, (some .int), [])
def M70 : gd_M := (yX1_feeds, cX1_feeds, 5, (some .int), [])
def M71 : gd_M := (yX1_mate, cX1_mate, 2, (some .int), [])
def M72 : gd_M := (yX1_rung, cX1_rung, 2, (some .int), [])
def M73 : gd_M := (yX1_fits, cX1_fits, 6, (some .int), [])
def M74 : gd_M := (yX1_isGrown, cX1_isGrown, 5, (some .boolean), [])
def M75 : gd_M := (yX1_look, cX1_look, 7, (some .int), [])
def M76 : gd_M := (yX1_isTold, cX1_isTold, 3, (some .boolean), [])
def M77 : gd_M := (yX1_worstAt, cX1_worstAt, 5, (some .int), [])
def M78 : gd_M := (yX1_run, cX1_run, 10, (some .long), [])
def M79 : gd_M := (yX1_part, cX1_part, 11, (some .long), [])
def M80 : gd_M := (yX1_planes, cX1_planes, 10, (some .int), [])
def M81 : gd_M := (yX1_hasBy, cX1_hasBy, 4, (some .int), [])
def M82 : gd_M := (yX1_chairs, cX1_chairs, 7, (some .int), [])
def M83 : gd_M := (yX1_givenBy, cX1_givenBy, 5, (some .int), [])
def M84 : gd_M := (yX1_tallest, cX1_tallest, 5, (some .int), [])
def M85 : gd_M := (yX1_gained, cX1_gained, 5, (some .int), [])
def M86 : gd_M := (yX1_lies, cX1_lies, 2, (some .int), [])
def M87 : gd_M := (yX1_swells, cX1_swells, 2, (some .int), [])
def M88 : gd_M := (yX1_sinks, cX1_sinks, 3, (some .int), [])
def M89 : gd_M := (yX1_heads, cX1_heads, 6, (some .int), [])
def M90 : gd_M := (yX1_driest, cX1_driest, 4, (some .int), [])
def M91 : gd_M := (yX1_decade, cX1_decade, 6, (some .int), [])
def M92 : gd_M := (yX1_decadeOf, cX1_decadeOf, 3, none, [])
def M93 : gd_M := (yX1_goes, cX1_goes, 6, (some (.object "GrowingDoor$State")), [])
def M94 : gd_M := (yX1_draw, cX1_draw, 2, (some .int), [])
def M95 : gd_M := (yX1_span, cX1_span, 12, (some .int), [])
def M96 : gd_M := (yX10_init, cX10_init, 3, none, [])
def M97 : gd_M := (yX10_now, cX10_now, 1, (some .int), [])
def M98 : gd_M := (yX10_byteAt, cX10_byteAt, 2, (some .int), [])
def M99 : gd_M := (yX10_place, cX10_place, 1, (some .int), [])
def M100 : gd_M := (yX10_which, cX10_which, 3, (some .int), [])
def M101 : gd_M := (yX10_isWord, cX10_isWord, 5, (some .boolean), [])
def M102 : gd_M := (yX10_isSmall, cX10_isSmall, 1, (some .boolean), [])
def M103 : gd_M := (yX10_skipsWord, cX10_skipsWord, 1, none, [])
def M104 : gd_M := (yX10_number, cX10_number, 5, (some .int), [])
def M105 : gd_M := (yX10_isDigit, cX10_isDigit, 1, (some .boolean), [])
def M106 : gd_M := (yX10_sign, cX10_sign, 2, none, [])
def M107 : gd_M := (yX10_opens, cX10_opens, 1, none, [])
def M108 : gd_M := (yX10_closes, cX10_closes, 1, none, [])
def M109 : gd_M := (yX10_takesSign, cX10_takesSign, 3, (some .boolean), [])
def M110 : gd_M := (yX10_ends, cX10_ends, 1, none, [])
def M111 : gd_M := (yX11_init, cX11_init, 3, none, [])
def M112 : gd_M := (yX12_init, cX12_init, 2, none, [])
def M113 : gd_M := (yX12_reads, cX12_reads, 2, (some (.object "GrowingDoor$Term")), [])
def M114 : gd_M := (yX12_sum, cX12_sum, 2, (some (.object "GrowingDoor$Term")), [])
def M115 : gd_M := (yX12_product, cX12_product, 2, (some (.object "GrowingDoor$Term")), [])
def M116 : gd_M := (yX12_value, cX12_value, 4, (some (.object "GrowingDoor$Term")), [])
def M117 : gd_M := (yX13_init, cX13_init, 4, none, [])
def M118 : gd_M := (yX13_on, cX13_on, 4, (some .int), [])
def M119 : gd_M := (yX14_init, cX14_init, 2, none, [])
def M120 : gd_M := (yX14_on, cX14_on, 2, (some .int), [])
def M121 : gd_M := (yX15_init, cX15_init, 2, none, [])
def M122 : gd_M := (yX15_on, cX15_on, 2, (some .int), [])
def M123 : gd_M := (yX16_init, cX16_init, 3, none, [])
def M124 : gd_M := (yX16_reads, cX16_reads, 2, (some (.object "GrowingDoor$Row")), [])
def M125 : gd_M := (yX16_one, cX16_one, 3, (some (.object "GrowingDoor$Step")), [])
def M126 : gd_M := (yX16_boy, cX16_boy, 1, (some .int), [])
def M127 : gd_M := (yX16_again, cX16_again, 2, (some (.object "GrowingDoor$Row")), [])
def M128 : gd_M := (yX17_init, cX17_init, 1, none, [])
def M129 : gd_M := (yX18_init, cX18_init, 2, none, [])
def M130 : gd_M := (yX18_adds, cX18_adds, 4, none, [])
def M131 : gd_M := (yX18_acts, cX18_acts, 4, none, [])
def M132 : gd_M := (yX19_init, cX19_init, 3, none, [])
def M133 : gd_M := (yX19_acts, cX19_acts, 2, none, [])
def M134 : gd_M := (yX2_init, cX2_init, 1, none, [])
def M135 : gd_M := (yX2_grows, cX2_grows, 2, (some .int), [])
def M136 : gd_M := (yX20_init, cX20_init, 4, none, [])
def M137 : gd_M := (yX20_acts, cX20_acts, 2, none, [])
def M138 : gd_M := (yX21_init, cX21_init, 1, none, [])
def M139 : gd_M := (yX21_acts, cX21_acts, 2, none, [])
def M140 : gd_M := (yX22_init, cX22_init, 2, none, [])
def M141 : gd_M := (yX22_mayBegin, cX22_mayBegin, 1, (some .boolean), [])
def M142 : gd_M := (yX22_begins, cX22_begins, 2, none, [])
def M143 : gd_M := (yX22_tells, cX22_tells, 2, none, [])
def M144 : gd_M := (yX3_init, cX3_init, 3, none, [])
def M145 : gd_M := (yX3_now, cX3_now, 1, (some (.object "GrowingDoor$State")), [])
def M146 : gd_M := (yX3_as, cX3_as, 3, none, [])
def M147 : gd_M := (yX4_init, cX4_init, 2, none, [])
def M148 : gd_M := (yX4_begins, cX4_begins, 3, none, [])
def M149 : gd_M := (yX4_there, cX4_there, 1, (some .int), [])
def M150 : gd_M := (yX4_as, cX4_as, 2, (some (.object "GrowingDoor$State")), [])
def M151 : gd_M := (yX4_passes, cX4_passes, 1, (some .boolean), [])
def M152 : gd_M := (yX4_monthEnds, cX4_monthEnds, 2, none, [])
def M153 : gd_M := (yX4_grows, cX4_grows, 4, (some .int), [])
def M154 : gd_M := (yX4_rain, cX4_rain, 1, (some .int), [])
def M155 : gd_M := (yX4_gain, cX4_gain, 2, (some .int), [])
def M156 : gd_M := (yX4_isAt, cX4_isAt, 2, (some .int), [])
def M157 : gd_M := (yX4_begin, cX4_begin, 4, (some .int), [])
def M158 : gd_M := (yX4_door, cX4_door, 1, (some .int), [])
def M159 : gd_M := (yX4_swells, cX4_swells, 2, (some .int), [])
def M160 : gd_M := (yX4_notches, cX4_notches, 2, (some .boolean), [])
def M161 : gd_M := (yX4_isThere, cX4_isThere, 2, (some .boolean), [])
def M162 : gd_M := (yX4_lies, cX4_lies, 3, (some .int), [])
def M163 : gd_M := (yX4_goes, cX4_goes, 3, (some .boolean), [])
def M164 : gd_M := (yX4_eats, cX4_eats, 3, (some .boolean), [])
def M165 : gd_M := (yX4_oils, cX4_oils, 2, (some .boolean), [])
def M166 : gd_M := (yX4_planes, cX4_planes, 4, (some .boolean), [])
def M167 : gd_M := (yX4_famous, cX4_famous, 3, (some .int), [])
def M168 : gd_M := (yX4_heights, cX4_heights, 3, (some .int), [])
def M169 : gd_M := (yX5_init, cX5_init, 1, none, [])
def M170 : gd_M := (yX5_known, cX5_known, 2, (some .int), [])
def M171 : gd_M := (yX6_init, cX6_init, 2, none, [])
def M172 : gd_M := (yX7_init, cX7_init, 1, none, [])
def M173 : gd_M := (yX7_finds, cX7_finds, 3, none, [])
def M174 : gd_M := (yX7_tries, cX7_tries, 7, none, [])
def M175 : gd_M := (yX8_thrown, cX8_thrown, 1, (some .int), [])
def M176 : gd_M := (yX8_init, cX8_init, 1, none, [])
def M177 : gd_M := (yX8_clears, cX8_clears, 2, none, [])
def M178 : gd_M := (yX8_sets, cX8_sets, 2, none, [])
def M179 : gd_M := (yX8_copies, cX8_copies, 5, none, [])
def M180 : gd_M := (yX8_feed, cX8_feed, 8, (some .int), [])
def M181 : gd_M := (yX8_fault, cX8_fault, 1, (some .int), [])
def M182 : gd_M := (yX8_school, cX8_school, 4, (some .int), [])
def M183 : gd_M := (yX8_may, cX8_may, 4, (some .boolean), [])
def M184 : gd_M := (yX8_begins, cX8_begins, 2, none, [])
def M185 : gd_M := (yX8_fine, cX8_fine, 1, (some .boolean), [])
def M186 : gd_M := (yX8_isMore, cX8_isMore, 1, (some .boolean), [])
def M187 : gd_M := (yX8_here, cX8_here, 1, (some .int), [])
def M188 : gd_M := (yX8_word, cX8_word, 4, (some .int), [])
def M189 : gd_M := (yX8_isSmall, cX8_isSmall, 1, (some .boolean), [])
def M190 : gd_M := (yX8_isRow, cX8_isRow, 1, (some .boolean), [])
def M191 : gd_M := (yX8_of, cX8_of, 3, (some .int), [])
def M192 : gd_M := (yX8_wrong, cX8_wrong, 3, none, [])
def M193 : gd_M := (yX8_pass, cX8_pass, 1, none, [])
def M194 : gd_M := (yX8_readRow, cX8_readRow, 4, none, [])
def M195 : gd_M := (yX8_readNumber, cX8_readNumber, 6, (some .int), [])
def M196 : gd_M := (yX8_isDigit, cX8_isDigit, 1, (some .boolean), [])
def M197 : gd_M := (yX8_readKin, cX8_readKin, 4, none, [])
def M198 : gd_M := (yX8_sign, cX8_sign, 2, none, [])
def M199 : gd_M := (yX8_result, cX8_result, 2, (some .int), [])
def M200 : gd_M := (yX8_law, cX8_law, 3, (some .int), [])
def M201 : gd_M := (yX8_readSum, cX8_readSum, 2, none, [])
def M202 : gd_M := (yX8_readProduct, cX8_readProduct, 2, none, [])
def M203 : gd_M := (yX8_readUnit, cX8_readUnit, 2, none, [])
def M204 : gd_M := (yX8_opensOne, cX8_opensOne, 2, none, [])
def M205 : gd_M := (yX8_emit, cX8_emit, 3, none, [])
def M206 : gd_M := (yX8_readTwo, cX8_readTwo, 3, none, [])
def M207 : gd_M := (yX8_factHere, cX8_factHere, 2, (some .int), [])
def M208 : gd_M := (yX8_work, cX8_work, 4, (some .int), [])
def M209 : gd_M := (yX8_readStep, cX8_readStep, 4, none, [])
def M210 : gd_M := (yX8_tellsStep, cX8_tellsStep, 4, none, [])
def M211 : gd_M := (yX8_take, cX8_take, 1, none, [])
def M212 : gd_M := (yX8_goesSteps, cX8_goesSteps, 6, none, [])
def M213 : gd_M := (yX8_isDone, cX8_isDone, 4, (some .boolean), [])
def M214 : gd_M := (yX8_cuts, cX8_cuts, 3, (some .boolean), [])
def M215 : gd_M := (yX8_boardAt, cX8_boardAt, 3, (some .int), [])
def M216 : gd_M := (yX8_below, cX8_below, 4, (some .int), [])
def M217 : gd_M := (yX8_becomes, cX8_becomes, 3, (some .boolean), [])
def M218 : gd_M := (yX8_planed, cX8_planed, 4, (some .boolean), [])
def M219 : gd_M := (yX8_goesOn, cX8_goesOn, 2, none, [])
def M220 : gd_M := (yX8_growsBy, cX8_growsBy, 4, (some .int), [])
def M221 : gd_M := (yX8_rainNow, cX8_rainNow, 1, (some .int), [])
def M222 : gd_M := (yX8_gainOf, cX8_gainOf, 2, (some .int), [])
def M223 : gd_M := (yX8_isAt, cX8_isAt, 2, (some .int), [])
def M224 : gd_M := (yX8_growsOf, cX8_growsOf, 9, (some .int), [])
def M225 : gd_M := (yX8_growsNow, cX8_growsNow, 2, (some .int), [])
def M226 : gd_M := (yX8_valueNow, cX8_valueNow, 4, (some .int), [])
def M227 : gd_M := (yX8_both, cX8_both, 3, (some .int), [])
def M228 : gd_M := (yX8_held, cX8_held, 1, (some .int), [])
def M229 : gd_M := (yX8_swellsOf, cX8_swellsOf, 3, (some .int), [])
def M230 : gd_M := (yX8_book, cX8_book, 6, (some .int), [])
def M231 : gd_M := (yX8_undo, cX8_undo, 2, (some .int), [])
def M232 : gd_M := (yX8_told, cX8_told, 2, (some .int), [])
def M233 : gd_M := (yX8_within, cX8_within, 3, (some .boolean), [])
def M234 : gd_M := (yX8_bitsTold, cX8_bitsTold, 4, (some .int), [])
def M235 : gd_M := (yX8_famousNow, cX8_famousNow, 3, (some .int), [])
def M236 : gd_M := (yX8_board, cX8_board, 5, (some .int), [])
def M237 : gd_M := (yX8_isBoard, cX8_isBoard, 3, (some .boolean), [])
def M238 : gd_M := (yX8_boy, cX8_boy, 3, (some .int), [])
def M239 : gd_M := (yX8_isBoy, cX8_isBoy, 3, (some .boolean), [])
def M240 : gd_M := (yX8_grows, cX8_grows, 2, (some .int), [])
def M241 : gd_M := (yX8_would, cX8_would, 9, (some .int), [])
def M242 : gd_M := (yX8_ahead, cX8_ahead, 4, (some .int), [])
def M243 : gd_M := (yX8_highAll, cX8_highAll, 3, (some .int), [])
def M244 : gd_M := (yX8_passes, cX8_passes, 4, (some .int), [])
def M245 : gd_M := (yX8_sinks, cX8_sinks, 3, (some .int), [])
def M246 : gd_M := (yX8_feeds, cX8_feeds, 5, (some .int), [])
def M247 : gd_M := (yX8_mates, cX8_mates, 1, (some .int), [])
def M248 : gd_M := (yX8_findMates, cX8_findMates, 9, (some .int), [])
def M249 : gd_M := (yX8_layMates, cX8_layMates, 9, (some .int), [])
def M250 : gd_M := (yX8_lowest, cX8_lowest, 2, (some .int), [])
def M251 : gd_M := (yX8_far, cX8_far, 3, (some .int), [])
def M252 : gd_M := (yX8_thereNow, cX8_thereNow, 3, (some .int), [])
def M253 : gd_M := (yX8_odd, cX8_odd, 3, (some .int), [])
def M254 : gd_M := (yX8_mate, cX8_mate, 2, (some .int), [])
def M255 : gd_M := (yX8_ladder, cX8_ladder, 1, (some .int), [])
def M256 : gd_M := (yX8_layLadder, cX8_layLadder, 4, (some .int), [])
def M257 : gd_M := (yX8_rung, cX8_rung, 6, (some .int), [])
def M258 : gd_M := (yX8_fits, cX8_fits, 6, (some .int), [])
def M259 : gd_M := (yX8_findPairs, cX8_findPairs, 4, none, [])
def M260 : gd_M := (yX8_look, cX8_look, 9, (some .int), [])
def M261 : gd_M := (yX8_run, cX8_run, 11, (some .long), [])
def M262 : gd_M := (yX8_least, cX8_least, 11, (some .long), [])
def M263 : gd_M := (yX8_planes, cX8_planes, 9, (some .int), [])
def M264 : gd_M := (yX8_hasBy, cX8_hasBy, 4, (some .int), [])
def M265 : gd_M := (yX8_chairs, cX8_chairs, 5, (some .int), [])
def M266 : gd_M := (yX8_chairsBy, cX8_chairsBy, 5, (some .int), [])
def M267 : gd_M := (yX8_tallest, cX8_tallest, 4, (some .int), [])
def M268 : gd_M := (yX8_gained, cX8_gained, 6, (some .int), [])
def M269 : gd_M := (yX8_lies, cX8_lies, 2, (some .int), [])
def M270 : gd_M := (yX8_swells, cX8_swells, 4, (some .int), [])
def M271 : gd_M := (yX8_heads, cX8_heads, 6, (some .int), [])
def M272 : gd_M := (yX8_driest, cX8_driest, 4, (some .int), [])
def M273 : gd_M := (yX8_decade, cX8_decade, 5, (some .int), [])
def M274 : gd_M := (yX8_isDecade, cX8_isDecade, 2, (some .boolean), [])
def M275 : gd_M := (yX8_decadeGoes, cX8_decadeGoes, 6, none, [])
def M276 : gd_M := (yX8_draws, cX8_draws, 2, (some .int), [])
def M277 : gd_M := (yX8_span, cX8_span, 12, (some .int), [])
def M278 : gd_M := (yX8_image, cX8_image, 1, (some .int), [])
def M279 : gd_M := (yX8_keepsAll, cX8_keepsAll, 4, none, [])
def M280 : gd_M := (yX8_keepsRow, cX8_keepsRow, 6, (some .int), [])
def M281 : gd_M := (yX8_restore, cX8_restore, 1, (some .int), [])
def M282 : gd_M := (yX8_status, cX8_status, 2, (some .int), [])
def M283 : gd_M := (yX8_count, cX8_count, 2, (some .int), [])
def M284 : gd_M := (yX9_init, cX9_init, 2, none, [])
def M285 : gd_M := (yX9_reads, cX9_reads, 1, (some (.object "GrowingDoor$School")), [])
def M286 : gd_M := (yX9_clause, cX9_clause, 4, none, [])
def M287 : gd_M := (yX9_isFull, cX9_isFull, 2, (some .boolean), [])
def M288 : gd_M := (yX9_kin, cX9_kin, 4, none, [])
def gd_ml0 : List gd_M := [M0, M1, M2, M3, M4, M5, M6, M7, M8, M9, M10, M11, M12, M13, M14, M15, M16, M17, M18, M19, M20, M21, M22, M23, M24, M25, M26, M27, M28, M29, M30, M31]
def gd_ml1 : List gd_M := [M32, M33, M34, M35, M36, M37, M38, M39, M40, M41, M42, M43, M44, M45, M46, M47, M48, M49, M50, M51, M52, M53, M54, M55, M56, M57, M58, M59, M60, M61, M62, M63]
def gd_ml2 : List gd_M := [M64, M65, M66, M67, M68, M69, M70, M71, M72, M73, M74, M75, M76, M77, M78, M79, M80, M81, M82, M83, M84, M85, M86, M87, M88, M89, M90, M91, M92, M93, M94, M95]
def gd_ml3 : List gd_M := [M96, M97, M98, M99, M100, M101, M102, M103, M104, M105, M106, M107, M108, M109, M110, M111, M112, M113, M114, M115, M116, M117, M118, M119, M120, M121, M122, M123, M124, M125, M126, M127]
def gd_ml4 : List gd_M := [M128, M129, M130, M131, M132, M133, M134, M135, M136, M137, M138, M139, M140, M141, M142, M143, M144, M145, M146, M147, M148, M149, M150, M151, M152, M153, M154, M155, M156, M157, M158, M159]
def gd_ml5 : List gd_M := [M160, M161, M162, M163, M164, M165, M166, M167, M168, M169, M170, M171, M172, M173, M174, M175, M176, M177, M178, M179, M180, M181, M182, M183, M184, M185, M186, M187, M188, M189, M190, M191]
def gd_ml6 : List gd_M := [M192, M193, M194, M195, M196, M197, M198, M199, M200, M201, M202, M203, M204, M205, M206, M207, M208, M209, M210, M211, M212, M213, M214, M215, M216, M217, M218, M219, M220, M221, M222, M223]
def gd_ml7 : List gd_M := [M224, M225, M226, M227, M228, M229, M230, M231, M232, M233, M234, M235, M236, M237, M238, M239, M240, M241, M242, M243, M244, M245, M246, M247, M248, M249, M250, M251, M252, M253, M254, M255]
def gd_ml8 : List gd_M := [M256, M257, M258, M259, M260, M261, M262, M263, M264, M265, M266, M267, M268, M269, M270, M271, M272, M273, M274, M275, M276, M277, M278, M279, M280, M281, M282, M283, M284, M285, M286, M287]
def gd_ml9 : List gd_M := [M288]
def gd_mt (k : Nat) : gd_M := if k < 32 then gd_ml0.getD (k - 0) M0 else if k < 64 then gd_ml1.getD (k - 32) M0 else if k < 96 then gd_ml2.getD (k - 64) M0 else if k < 128 then gd_ml3.getD (k - 96) M0 else if k < 160 then gd_ml4.getD (k - 128) M0 else if k < 192 then gd_ml5.getD (k - 160) M0 else if k < 224 then gd_ml6.getD (k - 192) M0 else if k < 256 then gd_ml7.getD (k - 224) M0 else if k < 288 then gd_ml8.getD (k - 256) M0 else if k < 320 then gd_ml9.getD (k - 288) M0 else M0
theorem e0 : gd_mt 0 = M0 := rfl
theorem e1 : gd_mt 1 = M1 := rfl
theorem e2 : gd_mt 2 = M2 := rfl
theorem e3 : gd_mt 3 = M3 := rfl
theorem e4 : gd_mt 4 = M4 := rfl
theorem e5 : gd_mt 5 = M5 := rfl
theorem e6 : gd_mt 6 = M6 := rfl
theorem e7 : gd_mt 7 = M7 := rfl
theorem e8 : gd_mt 8 = M8 := rfl
theorem e9 : gd_mt 9 = M9 := rfl
theorem e10 : gd_mt 10 = M10 := rfl
theorem e11 : gd_mt 11 = M11 := rfl
theorem e12 : gd_mt 12 = M12 := rfl
theorem e13 : gd_mt 13 = M13 := rfl
theorem e14 : gd_mt 14 = M14 := rfl
theorem e15 : gd_mt 15 = M15 := rfl
theorem e16 : gd_mt 16 = M16 := rfl
theorem e17 : gd_mt 17 = M17 := rfl
theorem e18 : gd_mt 18 = M18 := rfl
theorem e19 : gd_mt 19 = M19 := rfl
theorem e20 : gd_mt 20 = M20 := rfl
theorem e21 : gd_mt 21 = M21 := rfl
theorem e22 : gd_mt 22 = M22 := rfl
theorem e23 : gd_mt 23 = M23 := rfl
theorem e24 : gd_mt 24 = M24 := rfl
theorem e25 : gd_mt 25 = M25 := rfl
theorem e26 : gd_mt 26 = M26 := rfl
theorem e27 : gd_mt 27 = M27 := rfl
theorem e28 : gd_mt 28 = M28 := rfl
theorem e29 : gd_mt 29 = M29 := rfl
theorem e30 : gd_mt 30 = M30 := rfl
theorem e31 : gd_mt 31 = M31 := rfl
theorem e32 : gd_mt 32 = M32 := rfl
theorem e33 : gd_mt 33 = M33 := rfl
theorem e34 : gd_mt 34 = M34 := rfl
theorem e35 : gd_mt 35 = M35 := rfl
theorem e36 : gd_mt 36 = M36 := rfl
theorem e37 : gd_mt 37 = M37 := rfl
theorem e38 : gd_mt 38 = M38 := rfl
theorem e39 : gd_mt 39 = M39 := rfl
theorem e40 : gd_mt 40 = M40 := rfl
theorem e41 : gd_mt 41 = M41 := rfl
theorem e42 : gd_mt 42 = M42 := rfl
theorem e43 : gd_mt 43 = M43 := rfl
theorem e44 : gd_mt 44 = M44 := rfl
theorem e45 : gd_mt 45 = M45 := rfl
theorem e46 : gd_mt 46 = M46 := rfl
theorem e47 : gd_mt 47 = M47 := rfl
theorem e48 : gd_mt 48 = M48 := rfl
theorem e49 : gd_mt 49 = M49 := rfl
theorem e50 : gd_mt 50 = M50 := rfl
theorem e51 : gd_mt 51 = M51 := rfl
theorem e52 : gd_mt 52 = M52 := rfl
theorem e53 : gd_mt 53 = M53 := rfl
theorem e54 : gd_mt 54 = M54 := rfl
theorem e55 : gd_mt 55 = M55 := rfl
theorem e56 : gd_mt 56 = M56 := rfl
theorem e57 : gd_mt 57 = M57 := rfl
theorem e58 : gd_mt 58 = M58 := rfl
theorem e59 : gd_mt 59 = M59 := rfl
theorem e60 : gd_mt 60 = M60 := rfl
theorem e61 : gd_mt 61 = M61 := rfl
theorem e62 : gd_mt 62 = M62 := rfl
theorem e63 : gd_mt 63 = M63 := rfl
theorem e64 : gd_mt 64 = M64 := rfl
theorem e65 : gd_mt 65 = M65 := rfl
theorem e66 : gd_mt 66 = M66 := rfl
theorem e67 : gd_mt 67 = M67 := rfl
theorem e68 : gd_mt 68 = M68 := rfl
theorem e69 : gd_mt 69 = M69 := rfl
theorem e70 : gd_mt 70 = M70 := rfl
theorem e71 : gd_mt 71 = M71 := rfl
theorem e72 : gd_mt 72 = M72 := rfl
theorem e73 : gd_mt 73 = M73 := rfl
theorem e74 : gd_mt 74 = M74 := rfl
theorem e75 : gd_mt 75 = M75 := rfl
theorem e76 : gd_mt 76 = M76 := rfl
theorem e77 : gd_mt 77 = M77 := rfl
theorem e78 : gd_mt 78 = M78 := rfl
theorem e79 : gd_mt 79 = M79 := rfl
theorem e80 : gd_mt 80 = M80 := rfl
theorem e81 : gd_mt 81 = M81 := rfl
theorem e82 : gd_mt 82 = M82 := rfl
theorem e83 : gd_mt 83 = M83 := rfl
theorem e84 : gd_mt 84 = M84 := rfl
theorem e85 : gd_mt 85 = M85 := rfl
theorem e86 : gd_mt 86 = M86 := rfl
theorem e87 : gd_mt 87 = M87 := rfl
theorem e88 : gd_mt 88 = M88 := rfl
theorem e89 : gd_mt 89 = M89 := rfl
theorem e90 : gd_mt 90 = M90 := rfl
theorem e91 : gd_mt 91 = M91 := rfl
theorem e92 : gd_mt 92 = M92 := rfl
theorem e93 : gd_mt 93 = M93 := rfl
theorem e94 : gd_mt 94 = M94 := rfl
theorem e95 : gd_mt 95 = M95 := rfl
theorem e96 : gd_mt 96 = M96 := rfl
theorem e97 : gd_mt 97 = M97 := rfl
theorem e98 : gd_mt 98 = M98 := rfl
theorem e99 : gd_mt 99 = M99 := rfl
theorem e100 : gd_mt 100 = M100 := rfl
theorem e101 : gd_mt 101 = M101 := rfl
theorem e102 : gd_mt 102 = M102 := rfl
theorem e103 : gd_mt 103 = M103 := rfl
theorem e104 : gd_mt 104 = M104 := rfl
theorem e105 : gd_mt 105 = M105 := rfl
theorem e106 : gd_mt 106 = M106 := rfl
theorem e107 : gd_mt 107 = M107 := rfl
theorem e108 : gd_mt 108 = M108 := rfl
theorem e109 : gd_mt 109 = M109 := rfl
theorem e110 : gd_mt 110 = M110 := rfl
theorem e111 : gd_mt 111 = M111 := rfl
theorem e112 : gd_mt 112 = M112 := rfl
theorem e113 : gd_mt 113 = M113 := rfl
theorem e114 : gd_mt 114 = M114 := rfl
theorem e115 : gd_mt 115 = M115 := rfl
theorem e116 : gd_mt 116 = M116 := rfl
theorem e117 : gd_mt 117 = M117 := rfl
theorem e118 : gd_mt 118 = M118 := rfl
theorem e119 : gd_mt 119 = M119 := rfl
theorem e120 : gd_mt 120 = M120 := rfl
theorem e121 : gd_mt 121 = M121 := rfl
theorem e122 : gd_mt 122 = M122 := rfl
theorem e123 : gd_mt 123 = M123 := rfl
theorem e124 : gd_mt 124 = M124 := rfl
theorem e125 : gd_mt 125 = M125 := rfl
theorem e126 : gd_mt 126 = M126 := rfl
theorem e127 : gd_mt 127 = M127 := rfl
theorem e128 : gd_mt 128 = M128 := rfl
theorem e129 : gd_mt 129 = M129 := rfl
theorem e130 : gd_mt 130 = M130 := rfl
theorem e131 : gd_mt 131 = M131 := rfl
theorem e132 : gd_mt 132 = M132 := rfl
theorem e133 : gd_mt 133 = M133 := rfl
theorem e134 : gd_mt 134 = M134 := rfl
theorem e135 : gd_mt 135 = M135 := rfl
theorem e136 : gd_mt 136 = M136 := rfl
theorem e137 : gd_mt 137 = M137 := rfl
theorem e138 : gd_mt 138 = M138 := rfl
theorem e139 : gd_mt 139 = M139 := rfl
theorem e140 : gd_mt 140 = M140 := rfl
theorem e141 : gd_mt 141 = M141 := rfl
theorem e142 : gd_mt 142 = M142 := rfl
theorem e143 : gd_mt 143 = M143 := rfl
theorem e144 : gd_mt 144 = M144 := rfl
theorem e145 : gd_mt 145 = M145 := rfl
theorem e146 : gd_mt 146 = M146 := rfl
theorem e147 : gd_mt 147 = M147 := rfl
theorem e148 : gd_mt 148 = M148 := rfl
theorem e149 : gd_mt 149 = M149 := rfl
theorem e150 : gd_mt 150 = M150 := rfl
theorem e151 : gd_mt 151 = M151 := rfl
theorem e152 : gd_mt 152 = M152 := rfl
theorem e153 : gd_mt 153 = M153 := rfl
theorem e154 : gd_mt 154 = M154 := rfl
theorem e155 : gd_mt 155 = M155 := rfl
theorem e156 : gd_mt 156 = M156 := rfl
theorem e157 : gd_mt 157 = M157 := rfl
theorem e158 : gd_mt 158 = M158 := rfl
theorem e159 : gd_mt 159 = M159 := rfl
theorem e160 : gd_mt 160 = M160 := rfl
theorem e161 : gd_mt 161 = M161 := rfl
theorem e162 : gd_mt 162 = M162 := rfl
theorem e163 : gd_mt 163 = M163 := rfl
theorem e164 : gd_mt 164 = M164 := rfl
theorem e165 : gd_mt 165 = M165 := rfl
theorem e166 : gd_mt 166 = M166 := rfl
theorem e167 : gd_mt 167 = M167 := rfl
theorem e168 : gd_mt 168 = M168 := rfl
theorem e169 : gd_mt 169 = M169 := rfl
theorem e170 : gd_mt 170 = M170 := rfl
theorem e171 : gd_mt 171 = M171 := rfl
theorem e172 : gd_mt 172 = M172 := rfl
theorem e173 : gd_mt 173 = M173 := rfl
theorem e174 : gd_mt 174 = M174 := rfl
theorem e175 : gd_mt 175 = M175 := rfl
theorem e176 : gd_mt 176 = M176 := rfl
theorem e177 : gd_mt 177 = M177 := rfl
theorem e178 : gd_mt 178 = M178 := rfl
theorem e179 : gd_mt 179 = M179 := rfl
theorem e180 : gd_mt 180 = M180 := rfl
theorem e181 : gd_mt 181 = M181 := rfl
theorem e182 : gd_mt 182 = M182 := rfl
theorem e183 : gd_mt 183 = M183 := rfl
theorem e184 : gd_mt 184 = M184 := rfl
theorem e185 : gd_mt 185 = M185 := rfl
theorem e186 : gd_mt 186 = M186 := rfl
theorem e187 : gd_mt 187 = M187 := rfl
theorem e188 : gd_mt 188 = M188 := rfl
theorem e189 : gd_mt 189 = M189 := rfl
theorem e190 : gd_mt 190 = M190 := rfl
theorem e191 : gd_mt 191 = M191 := rfl
theorem e192 : gd_mt 192 = M192 := rfl
theorem e193 : gd_mt 193 = M193 := rfl
theorem e194 : gd_mt 194 = M194 := rfl
theorem e195 : gd_mt 195 = M195 := rfl
theorem e196 : gd_mt 196 = M196 := rfl
theorem e197 : gd_mt 197 = M197 := rfl
theorem e198 : gd_mt 198 = M198 := rfl
theorem e199 : gd_mt 199 = M199 := rfl
theorem e200 : gd_mt 200 = M200 := rfl
theorem e201 : gd_mt 201 = M201 := rfl
theorem e202 : gd_mt 202 = M202 := rfl
theorem e203 : gd_mt 203 = M203 := rfl
theorem e204 : gd_mt 204 = M204 := rfl
theorem e205 : gd_mt 205 = M205 := rfl
theorem e206 : gd_mt 206 = M206 := rfl
theorem e207 : gd_mt 207 = M207 := rfl
theorem e208 : gd_mt 208 = M208 := rfl
theorem e209 : gd_mt 209 = M209 := rfl
theorem e210 : gd_mt 210 = M210 := rfl
theorem e211 : gd_mt 211 = M211 := rfl
theorem e212 : gd_mt 212 = M212 := rfl
theorem e213 : gd_mt 213 = M213 := rfl
theorem e214 : gd_mt 214 = M214 := rfl
theorem e215 : gd_mt 215 = M215 := rfl
theorem e216 : gd_mt 216 = M216 := rfl
theorem e217 : gd_mt 217 = M217 := rfl
theorem e218 : gd_mt 218 = M218 := rfl
theorem e219 : gd_mt 219 = M219 := rfl
theorem e220 : gd_mt 220 = M220 := rfl
theorem e221 : gd_mt 221 = M221 := rfl
theorem e222 : gd_mt 222 = M222 := rfl
theorem e223 : gd_mt 223 = M223 := rfl
theorem e224 : gd_mt 224 = M224 := rfl
theorem e225 : gd_mt 225 = M225 := rfl
theorem e226 : gd_mt 226 = M226 := rfl
theorem e227 : gd_mt 227 = M227 := rfl
theorem e228 : gd_mt 228 = M228 := rfl
theorem e229 : gd_mt 229 = M229 := rfl
theorem e230 : gd_mt 230 = M230 := rfl
theorem e231 : gd_mt 231 = M231 := rfl
theorem e232 : gd_mt 232 = M232 := rfl
theorem e233 : gd_mt 233 = M233 := rfl
theorem e234 : gd_mt 234 = M234 := rfl
theorem e235 : gd_mt 235 = M235 := rfl
theorem e236 : gd_mt 236 = M236 := rfl
theorem e237 : gd_mt 237 = M237 := rfl
theorem e238 : gd_mt 238 = M238 := rfl
theorem e239 : gd_mt 239 = M239 := rfl
theorem e240 : gd_mt 240 = M240 := rfl
theorem e241 : gd_mt 241 = M241 := rfl
theorem e242 : gd_mt 242 = M242 := rfl
theorem e243 : gd_mt 243 = M243 := rfl
theorem e244 : gd_mt 244 = M244 := rfl
theorem e245 : gd_mt 245 = M245 := rfl
theorem e246 : gd_mt 246 = M246 := rfl
theorem e247 : gd_mt 247 = M247 := rfl
theorem e248 : gd_mt 248 = M248 := rfl
theorem e249 : gd_mt 249 = M249 := rfl
theorem e250 : gd_mt 250 = M250 := rfl
theorem e251 : gd_mt 251 = M251 := rfl
theorem e252 : gd_mt 252 = M252 := rfl
theorem e253 : gd_mt 253 = M253 := rfl
theorem e254 : gd_mt 254 = M254 := rfl
theorem e255 : gd_mt 255 = M255 := rfl
theorem e256 : gd_mt 256 = M256 := rfl
theorem e257 : gd_mt 257 = M257 := rfl
theorem e258 : gd_mt 258 = M258 := rfl
theorem e259 : gd_mt 259 = M259 := rfl
theorem e260 : gd_mt 260 = M260 := rfl
theorem e261 : gd_mt 261 = M261 := rfl
theorem e262 : gd_mt 262 = M262 := rfl
theorem e263 : gd_mt 263 = M263 := rfl
theorem e264 : gd_mt 264 = M264 := rfl
theorem e265 : gd_mt 265 = M265 := rfl
theorem e266 : gd_mt 266 = M266 := rfl
theorem e267 : gd_mt 267 = M267 := rfl
theorem e268 : gd_mt 268 = M268 := rfl
theorem e269 : gd_mt 269 = M269 := rfl
theorem e270 : gd_mt 270 = M270 := rfl
theorem e271 : gd_mt 271 = M271 := rfl
theorem e272 : gd_mt 272 = M272 := rfl
theorem e273 : gd_mt 273 = M273 := rfl
theorem e274 : gd_mt 274 = M274 := rfl
theorem e275 : gd_mt 275 = M275 := rfl
theorem e276 : gd_mt 276 = M276 := rfl
theorem e277 : gd_mt 277 = M277 := rfl
theorem e278 : gd_mt 278 = M278 := rfl
theorem e279 : gd_mt 279 = M279 := rfl
theorem e280 : gd_mt 280 = M280 := rfl
theorem e281 : gd_mt 281 = M281 := rfl
theorem e282 : gd_mt 282 = M282 := rfl
theorem e283 : gd_mt 283 = M283 := rfl
theorem e284 : gd_mt 284 = M284 := rfl
theorem e285 : gd_mt 285 = M285 := rfl
theorem e286 : gd_mt 286 = M286 := rfl
theorem e287 : gd_mt 287 = M287 := rfl
theorem e288 : gd_mt 288 = M288 := rfl
theorem cal0 : gd_cal M0 ∧ (parseMethodDescriptor M0.1.desc).map (fun d => d.parameters.length) = some 4 := ⟨⟨gd_cw0 rfl q729, q95, by decide, ⟨4, by decide⟩, by decide⟩, by decide⟩
theorem cal1 : gd_cal M1 ∧ (parseMethodDescriptor M1.1.desc).map (fun d => d.parameters.length) = some 4 := ⟨⟨gd_cw0 rfl q726, q96, by decide, ⟨4, by decide⟩, by decide⟩, by decide⟩
theorem cal2 : gd_cal M2 ∧ (parseMethodDescriptor M2.1.desc).map (fun d => d.parameters.length) = some 1 := ⟨⟨gd_cw0 rfl q453, q119, by decide, ⟨1, by decide⟩, by decide⟩, by decide⟩
theorem cal3 : gd_cal M3 ∧ (parseMethodDescriptor M3.1.desc).map (fun d => d.parameters.length) = some 1 := ⟨⟨gd_cw0 rfl q464, q119, by decide, ⟨1, by decide⟩, by decide⟩, by decide⟩
theorem cal4 : gd_cal M4 ∧ (parseMethodDescriptor M4.1.desc).map (fun d => d.parameters.length) = some 1 := ⟨⟨gd_cw0 rfl q1364, q119, by decide, ⟨1, by decide⟩, by decide⟩, by decide⟩
theorem cal5 : gd_cal M5 ∧ (parseMethodDescriptor M5.1.desc).map (fun d => d.parameters.length) = some 0 := ⟨⟨gd_cw0 rfl q667, q101, by decide, ⟨0, by decide⟩, by decide⟩, by decide⟩
theorem cal6 : gd_cal M6 ∧ (parseMethodDescriptor M6.1.desc).map (fun d => d.parameters.length) = some 0 := ⟨⟨gd_cw0 rfl q671, q101, by decide, ⟨0, by decide⟩, by decide⟩, by decide⟩
theorem cal7 : gd_cal M7 ∧ (parseMethodDescriptor M7.1.desc).map (fun d => d.parameters.length) = some 1 := ⟨⟨gd_cw0 rfl q677, q101, by decide, ⟨1, by decide⟩, by decide⟩, by decide⟩
theorem cal8 : gd_cal M8 ∧ (parseMethodDescriptor M8.1.desc).map (fun d => d.parameters.length) = some 0 := ⟨⟨gd_cw0 rfl q681, q101, by decide, ⟨0, by decide⟩, by decide⟩, by decide⟩
theorem cal9 : gd_cal M9 ∧ (parseMethodDescriptor M9.1.desc).map (fun d => d.parameters.length) = some 2 := ⟨⟨gd_cw0 rfl q687, q101, by decide, ⟨2, by decide⟩, by decide⟩, by decide⟩
theorem cal10 : gd_cal M10 ∧ (parseMethodDescriptor M10.1.desc).map (fun d => d.parameters.length) = some 2 := ⟨⟨gd_cw0 rfl q684, q102, by decide, ⟨2, by decide⟩, by decide⟩, by decide⟩
theorem cal11 : gd_cal M11 ∧ (parseMethodDescriptor M11.1.desc).map (fun d => d.parameters.length) = some 3 := ⟨⟨gd_cw0 rfl q692, q103, by decide, ⟨3, by decide⟩, by decide⟩, by decide⟩
theorem cal13 : gd_cal M13 ∧ (parseMethodDescriptor M13.1.desc).map (fun d => d.parameters.length) = some 3 := ⟨⟨gd_cw1 (by decide) q506, q85, by decide, ⟨3, by decide⟩, by decide⟩, by decide⟩
theorem cal14 : gd_cal M14 ∧ (parseMethodDescriptor M14.1.desc).map (fun d => d.parameters.length) = some 3 := ⟨⟨gd_cw1 (by decide) q775, q85, by decide, ⟨3, by decide⟩, by decide⟩, by decide⟩
theorem cal15 : gd_cal M15 ∧ (parseMethodDescriptor M15.1.desc).map (fun d => d.parameters.length) = some 3 := ⟨⟨gd_cw1 (by decide) q881, q85, by decide, ⟨3, by decide⟩, by decide⟩, by decide⟩
theorem cal16 : gd_cal M16 ∧ (parseMethodDescriptor M16.1.desc).map (fun d => d.parameters.length) = some 3 := ⟨⟨gd_cw1 (by decide) q1159, q85, by decide, ⟨3, by decide⟩, by decide⟩, by decide⟩
theorem cal17 : gd_cal M17 ∧ (parseMethodDescriptor M17.1.desc).map (fun d => d.parameters.length) = some 3 := ⟨⟨gd_cw1 (by decide) q1172, q85, by decide, ⟨3, by decide⟩, by decide⟩, by decide⟩
theorem cal18 : gd_cal M18 ∧ (parseMethodDescriptor M18.1.desc).map (fun d => d.parameters.length) = some 4 := ⟨⟨gd_cw1 (by decide) q1186, q85, by decide, ⟨4, by decide⟩, by decide⟩, by decide⟩
theorem cal19 : gd_cal M19 ∧ (parseMethodDescriptor M19.1.desc).map (fun d => d.parameters.length) = some 4 := ⟨⟨gd_cw1 (by decide) q1218, q85, by decide, ⟨4, by decide⟩, by decide⟩, by decide⟩
theorem cal20 : gd_cal M20 ∧ (parseMethodDescriptor M20.1.desc).map (fun d => d.parameters.length) = some 3 := ⟨⟨gd_cw1 (by decide) q1232, q85, by decide, ⟨3, by decide⟩, by decide⟩, by decide⟩
theorem cal21 : gd_cal M21 ∧ (parseMethodDescriptor M21.1.desc).map (fun d => d.parameters.length) = some 10 := ⟨⟨gd_cw1 (by decide) q1240, q85, by decide, ⟨10, by decide⟩, by decide⟩, by decide⟩
theorem cal22 : gd_cal M22 ∧ (parseMethodDescriptor M22.1.desc).map (fun d => d.parameters.length) = some 4 := ⟨⟨gd_cw1 (by decide) q1248, q85, by decide, ⟨4, by decide⟩, by decide⟩, by decide⟩
theorem cal23 : gd_cal M23 ∧ (parseMethodDescriptor M23.1.desc).map (fun d => d.parameters.length) = some 4 := ⟨⟨gd_cw1 (by decide) q1264, q85, by decide, ⟨4, by decide⟩, by decide⟩, by decide⟩
theorem cal24 : gd_cal M24 ∧ (parseMethodDescriptor M24.1.desc).map (fun d => d.parameters.length) = some 4 := ⟨⟨gd_cw1 (by decide) q1271, q85, by decide, ⟨4, by decide⟩, by decide⟩, by decide⟩
theorem cal25 : gd_cal M25 ∧ (parseMethodDescriptor M25.1.desc).map (fun d => d.parameters.length) = some 3 := ⟨⟨gd_cw1 (by decide) q1278, q85, by decide, ⟨3, by decide⟩, by decide⟩, by decide⟩
theorem cal26 : gd_cal M26 ∧ (parseMethodDescriptor M26.1.desc).map (fun d => d.parameters.length) = some 3 := ⟨⟨gd_cw1 (by decide) q1285, q85, by decide, ⟨3, by decide⟩, by decide⟩, by decide⟩
theorem cal27 : gd_cal M27 ∧ (parseMethodDescriptor M27.1.desc).map (fun d => d.parameters.length) = some 4 := ⟨⟨gd_cw1 (by decide) q1293, q85, by decide, ⟨4, by decide⟩, by decide⟩, by decide⟩
theorem cal28 : gd_cal M28 ∧ (parseMethodDescriptor M28.1.desc).map (fun d => d.parameters.length) = some 4 := ⟨⟨gd_cw1 (by decide) q1304, q85, by decide, ⟨4, by decide⟩, by decide⟩, by decide⟩
theorem cal29 : gd_cal M29 ∧ (parseMethodDescriptor M29.1.desc).map (fun d => d.parameters.length) = some 6 := ⟨⟨gd_cw1 (by decide) q1319, q85, by decide, ⟨6, by decide⟩, by decide⟩, by decide⟩
theorem cal30 : gd_cal M30 ∧ (parseMethodDescriptor M30.1.desc).map (fun d => d.parameters.length) = some 5 := ⟨⟨gd_cw1 (by decide) q1329, q85, by decide, ⟨5, by decide⟩, by decide⟩, by decide⟩
theorem cal31 : gd_cal M31 ∧ (parseMethodDescriptor M31.1.desc).map (fun d => d.parameters.length) = some 5 := ⟨⟨gd_cw1 (by decide) q1339, q85, by decide, ⟨5, by decide⟩, by decide⟩, by decide⟩
theorem cal32 : gd_cal M32 ∧ (parseMethodDescriptor M32.1.desc).map (fun d => d.parameters.length) = some 3 := ⟨⟨gd_cw1 (by decide) q1350, q85, by decide, ⟨3, by decide⟩, by decide⟩, by decide⟩
theorem cal33 : gd_cal M33 ∧ (parseMethodDescriptor M33.1.desc).map (fun d => d.parameters.length) = some 3 := ⟨⟨gd_cw1 (by decide) q1357, q85, by decide, ⟨3, by decide⟩, by decide⟩, by decide⟩
theorem cal34 : gd_cal M34 ∧ (parseMethodDescriptor M34.1.desc).map (fun d => d.parameters.length) = some 3 := ⟨⟨gd_cw1 (by decide) q1367, q85, by decide, ⟨3, by decide⟩, by decide⟩, by decide⟩
theorem cal35 : gd_cal M35 ∧ (parseMethodDescriptor M35.1.desc).map (fun d => d.parameters.length) = some 3 := ⟨⟨gd_cw1 (by decide) q1375, q85, by decide, ⟨3, by decide⟩, by decide⟩, by decide⟩
theorem cal36 : gd_cal M36 ∧ (parseMethodDescriptor M36.1.desc).map (fun d => d.parameters.length) = some 3 := ⟨⟨gd_cw1 (by decide) q1383, q85, by decide, ⟨3, by decide⟩, by decide⟩, by decide⟩
theorem cal37 : gd_cal M37 ∧ (parseMethodDescriptor M37.1.desc).map (fun d => d.parameters.length) = some 3 := ⟨⟨gd_cw1 (by decide) q1390, q85, by decide, ⟨3, by decide⟩, by decide⟩, by decide⟩
theorem cal38 : gd_cal M38 ∧ (parseMethodDescriptor M38.1.desc).map (fun d => d.parameters.length) = some 3 := ⟨⟨gd_cw1 (by decide) q1397, q85, by decide, ⟨3, by decide⟩, by decide⟩, by decide⟩
theorem cal39 : gd_cal M39 ∧ (parseMethodDescriptor M39.1.desc).map (fun d => d.parameters.length) = some 6 := ⟨⟨gd_cw1 (by decide) q1404, q85, by decide, ⟨6, by decide⟩, by decide⟩, by decide⟩
theorem cal40 : gd_cal M40 ∧ (parseMethodDescriptor M40.1.desc).map (fun d => d.parameters.length) = some 8 := ⟨⟨gd_cw1 (by decide) q1427, q85, by decide, ⟨8, by decide⟩, by decide⟩, by decide⟩
theorem cal41 : gd_cal M41 ∧ (parseMethodDescriptor M41.1.desc).map (fun d => d.parameters.length) = some 0 := ⟨⟨gd_cw0 rfl q124, q86, by decide, ⟨0, by decide⟩, by decide⟩, by decide⟩
theorem cal42 : gd_cal M42 ∧ (parseMethodDescriptor M42.1.desc).map (fun d => d.parameters.length) = some 5 := ⟨⟨gd_cw0 rfl q430, q86, by decide, ⟨5, by decide⟩, by decide⟩, by decide⟩
theorem cal43 : gd_cal M43 ∧ (parseMethodDescriptor M43.1.desc).map (fun d => d.parameters.length) = some 0 := ⟨⟨gd_cw0 rfl q434, q86, by decide, ⟨0, by decide⟩, by decide⟩, by decide⟩
theorem cal44 : gd_cal M44 ∧ (parseMethodDescriptor M44.1.desc).map (fun d => d.parameters.length) = some 0 := ⟨⟨gd_cw0 rfl q438, q86, by decide, ⟨0, by decide⟩, by decide⟩, by decide⟩
theorem cal45 : gd_cal M45 ∧ (parseMethodDescriptor M45.1.desc).map (fun d => d.parameters.length) = some 0 := ⟨⟨gd_cw0 rfl q442, q86, by decide, ⟨0, by decide⟩, by decide⟩, by decide⟩
theorem cal46 : gd_cal M46 ∧ (parseMethodDescriptor M46.1.desc).map (fun d => d.parameters.length) = some 0 := ⟨⟨gd_cw0 rfl q472, q86, by decide, ⟨0, by decide⟩, by decide⟩, by decide⟩
theorem cal47 : gd_cal M47 ∧ (parseMethodDescriptor M47.1.desc).map (fun d => d.parameters.length) = some 0 := ⟨⟨gd_cw0 rfl q476, q86, by decide, ⟨0, by decide⟩, by decide⟩, by decide⟩
theorem cal48 : gd_cal M48 ∧ (parseMethodDescriptor M48.1.desc).map (fun d => d.parameters.length) = some 0 := ⟨⟨gd_cw0 rfl q483, q86, by decide, ⟨0, by decide⟩, by decide⟩, by decide⟩
theorem cal49 : gd_cal M49 ∧ (parseMethodDescriptor M49.1.desc).map (fun d => d.parameters.length) = some 0 := ⟨⟨gd_cw0 rfl q495, q86, by decide, ⟨0, by decide⟩, by decide⟩, by decide⟩
theorem cal50 : gd_cal M50 ∧ (parseMethodDescriptor M50.1.desc).map (fun d => d.parameters.length) = some 1 := ⟨⟨gd_cw0 rfl q499, q86, by decide, ⟨1, by decide⟩, by decide⟩, by decide⟩
theorem cal51 : gd_cal M51 ∧ (parseMethodDescriptor M51.1.desc).map (fun d => d.parameters.length) = some 1 := ⟨⟨gd_cw0 rfl q503, q86, by decide, ⟨1, by decide⟩, by decide⟩, by decide⟩
theorem cal52 : gd_cal M52 ∧ (parseMethodDescriptor M52.1.desc).map (fun d => d.parameters.length) = some 1 := ⟨⟨gd_cw1 (by decide) q511, q86, by decide, ⟨1, by decide⟩, by decide⟩, by decide⟩
theorem cal53 : gd_cal M53 ∧ (parseMethodDescriptor M53.1.desc).map (fun d => d.parameters.length) = some 3 := ⟨⟨gd_cw0 rfl q516, q86, by decide, ⟨3, by decide⟩, by decide⟩, by decide⟩
theorem cal54 : gd_cal M54 ∧ (parseMethodDescriptor M54.1.desc).map (fun d => d.parameters.length) = some 1 := ⟨⟨gd_cw0 rfl q586, q86, by decide, ⟨1, by decide⟩, by decide⟩, by decide⟩
theorem cal55 : gd_cal M55 ∧ (parseMethodDescriptor M55.1.desc).map (fun d => d.parameters.length) = some 1 := ⟨⟨gd_cw0 rfl q772, q86, by decide, ⟨1, by decide⟩, by decide⟩, by decide⟩
theorem cal56 : gd_cal M56 ∧ (parseMethodDescriptor M56.1.desc).map (fun d => d.parameters.length) = some 1 := ⟨⟨gd_cw1 (by decide) q779, q86, by decide, ⟨1, by decide⟩, by decide⟩, by decide⟩
theorem cal57 : gd_cal M57 ∧ (parseMethodDescriptor M57.1.desc).map (fun d => d.parameters.length) = some 1 := ⟨⟨gd_cw1 (by decide) q885, q86, by decide, ⟨1, by decide⟩, by decide⟩, by decide⟩
theorem cal58 : gd_cal M58 ∧ (parseMethodDescriptor M58.1.desc).map (fun d => d.parameters.length) = some 1 := ⟨⟨gd_cw1 (by decide) q1163, q86, by decide, ⟨1, by decide⟩, by decide⟩, by decide⟩
theorem cal59 : gd_cal M59 ∧ (parseMethodDescriptor M59.1.desc).map (fun d => d.parameters.length) = some 1 := ⟨⟨gd_cw0 rfl q1176, q86, by decide, ⟨1, by decide⟩, by decide⟩, by decide⟩
theorem cal60 : gd_cal M60 ∧ (parseMethodDescriptor M60.1.desc).map (fun d => d.parameters.length) = some 2 := ⟨⟨gd_cw0 rfl q1191, q86, by decide, ⟨2, by decide⟩, by decide⟩, by decide⟩
theorem cal61 : gd_cal M61 ∧ (parseMethodDescriptor M61.1.desc).map (fun d => d.parameters.length) = some 1 := ⟨⟨gd_cw0 rfl q1195, q86, by decide, ⟨1, by decide⟩, by decide⟩, by decide⟩
theorem cal62 : gd_cal M62 ∧ (parseMethodDescriptor M62.1.desc).map (fun d => d.parameters.length) = some 2 := ⟨⟨gd_cw0 rfl q1199, q86, by decide, ⟨2, by decide⟩, by decide⟩, by decide⟩
theorem cal63 : gd_cal M63 ∧ (parseMethodDescriptor M63.1.desc).map (fun d => d.parameters.length) = some 2 := ⟨⟨gd_cw0 rfl q1222, q86, by decide, ⟨2, by decide⟩, by decide⟩, by decide⟩
theorem cal64 : gd_cal M64 ∧ (parseMethodDescriptor M64.1.desc).map (fun d => d.parameters.length) = some 1 := ⟨⟨gd_cw0 rfl q1226, q86, by decide, ⟨1, by decide⟩, by decide⟩, by decide⟩
theorem cal65 : gd_cal M65 ∧ (parseMethodDescriptor M65.1.desc).map (fun d => d.parameters.length) = some 1 := ⟨⟨gd_cw0 rfl q1236, q86, by decide, ⟨1, by decide⟩, by decide⟩, by decide⟩
theorem cal66 : gd_cal M66 ∧ (parseMethodDescriptor M66.1.desc).map (fun d => d.parameters.length) = some 8 := ⟨⟨gd_cw0 rfl q1244, q86, by decide, ⟨8, by decide⟩, by decide⟩, by decide⟩
theorem cal67 : gd_cal M67 ∧ (parseMethodDescriptor M67.1.desc).map (fun d => d.parameters.length) = some 2 := ⟨⟨gd_cw0 rfl q1252, q86, by decide, ⟨2, by decide⟩, by decide⟩, by decide⟩
theorem cal68 : gd_cal M68 ∧ (parseMethodDescriptor M68.1.desc).map (fun d => d.parameters.length) = some 0 := ⟨⟨gd_cw0 rfl q1256, q86, by decide, ⟨0, by decide⟩, by decide⟩, by decide⟩
theorem cal69 : gd_cal M69 ∧ (parseMethodDescriptor M69.1.desc).map (fun d => d.parameters.length) = some 2 := ⟨⟨gd_cw0 rfl q1268, q86, by decide, ⟨2, by decide⟩, by decide⟩, by decide⟩
theorem cal70 : gd_cal M70 ∧ (parseMethodDescriptor M70.1.desc).map (fun d => d.parameters.length) = some 2 := ⟨⟨gd_cw0 rfl q1275, q86, by decide, ⟨2, by decide⟩, by decide⟩, by decide⟩
theorem cal71 : gd_cal M71 ∧ (parseMethodDescriptor M71.1.desc).map (fun d => d.parameters.length) = some 1 := ⟨⟨gd_cw0 rfl q1282, q86, by decide, ⟨1, by decide⟩, by decide⟩, by decide⟩
theorem cal72 : gd_cal M72 ∧ (parseMethodDescriptor M72.1.desc).map (fun d => d.parameters.length) = some 1 := ⟨⟨gd_cw0 rfl q1289, q86, by decide, ⟨1, by decide⟩, by decide⟩, by decide⟩
theorem cal73 : gd_cal M73 ∧ (parseMethodDescriptor M73.1.desc).map (fun d => d.parameters.length) = some 2 := ⟨⟨gd_cw0 rfl q1297, q86, by decide, ⟨2, by decide⟩, by decide⟩, by decide⟩
theorem cal74 : gd_cal M74 ∧ (parseMethodDescriptor M74.1.desc).map (fun d => d.parameters.length) = some 3 := ⟨⟨gd_cw0 rfl q1301, q86, by decide, ⟨3, by decide⟩, by decide⟩, by decide⟩
theorem cal75 : gd_cal M75 ∧ (parseMethodDescriptor M75.1.desc).map (fun d => d.parameters.length) = some 2 := ⟨⟨gd_cw0 rfl q1308, q86, by decide, ⟨2, by decide⟩, by decide⟩, by decide⟩
theorem cal76 : gd_cal M76 ∧ (parseMethodDescriptor M76.1.desc).map (fun d => d.parameters.length) = some 1 := ⟨⟨gd_cw0 rfl q1312, q86, by decide, ⟨1, by decide⟩, by decide⟩, by decide⟩
theorem cal77 : gd_cal M77 ∧ (parseMethodDescriptor M77.1.desc).map (fun d => d.parameters.length) = some 2 := ⟨⟨gd_cw0 rfl q1316, q86, by decide, ⟨2, by decide⟩, by decide⟩, by decide⟩
theorem cal78 : gd_cal M78 ∧ (parseMethodDescriptor M78.1.desc).map (fun d => d.parameters.length) = some 4 := ⟨⟨gd_cw0 rfl q1323, q86, by decide, ⟨4, by decide⟩, by decide⟩, by decide⟩
theorem cal79 : gd_cal M79 ∧ (parseMethodDescriptor M79.1.desc).map (fun d => d.parameters.length) = some 3 := ⟨⟨gd_cw0 rfl q1326, q86, by decide, ⟨3, by decide⟩, by decide⟩, by decide⟩
theorem cal80 : gd_cal M80 ∧ (parseMethodDescriptor M80.1.desc).map (fun d => d.parameters.length) = some 3 := ⟨⟨gd_cw0 rfl q1333, q86, by decide, ⟨3, by decide⟩, by decide⟩, by decide⟩
theorem cal81 : gd_cal M81 ∧ (parseMethodDescriptor M81.1.desc).map (fun d => d.parameters.length) = some 4 := ⟨⟨gd_cw0 rfl q1336, q86, by decide, ⟨4, by decide⟩, by decide⟩, by decide⟩
theorem cal82 : gd_cal M82 ∧ (parseMethodDescriptor M82.1.desc).map (fun d => d.parameters.length) = some 3 := ⟨⟨gd_cw0 rfl q1343, q86, by decide, ⟨3, by decide⟩, by decide⟩, by decide⟩
theorem cal83 : gd_cal M83 ∧ (parseMethodDescriptor M83.1.desc).map (fun d => d.parameters.length) = some 2 := ⟨⟨gd_cw0 rfl q1347, q86, by decide, ⟨2, by decide⟩, by decide⟩, by decide⟩
theorem cal84 : gd_cal M84 ∧ (parseMethodDescriptor M84.1.desc).map (fun d => d.parameters.length) = some 1 := ⟨⟨gd_cw0 rfl q1354, q86, by decide, ⟨1, by decide⟩, by decide⟩, by decide⟩
theorem cal85 : gd_cal M85 ∧ (parseMethodDescriptor M85.1.desc).map (fun d => d.parameters.length) = some 1 := ⟨⟨gd_cw0 rfl q1361, q86, by decide, ⟨1, by decide⟩, by decide⟩, by decide⟩
theorem cal86 : gd_cal M86 ∧ (parseMethodDescriptor M86.1.desc).map (fun d => d.parameters.length) = some 1 := ⟨⟨gd_cw0 rfl q1371, q86, by decide, ⟨1, by decide⟩, by decide⟩, by decide⟩
theorem cal87 : gd_cal M87 ∧ (parseMethodDescriptor M87.1.desc).map (fun d => d.parameters.length) = some 1 := ⟨⟨gd_cw0 rfl q1379, q86, by decide, ⟨1, by decide⟩, by decide⟩, by decide⟩
theorem cal88 : gd_cal M88 ∧ (parseMethodDescriptor M88.1.desc).map (fun d => d.parameters.length) = some 1 := ⟨⟨gd_cw0 rfl q1387, q86, by decide, ⟨1, by decide⟩, by decide⟩, by decide⟩
theorem cal89 : gd_cal M89 ∧ (parseMethodDescriptor M89.1.desc).map (fun d => d.parameters.length) = some 1 := ⟨⟨gd_cw0 rfl q1394, q86, by decide, ⟨1, by decide⟩, by decide⟩, by decide⟩
theorem cal90 : gd_cal M90 ∧ (parseMethodDescriptor M90.1.desc).map (fun d => d.parameters.length) = some 1 := ⟨⟨gd_cw0 rfl q1401, q86, by decide, ⟨1, by decide⟩, by decide⟩, by decide⟩
theorem cal91 : gd_cal M91 ∧ (parseMethodDescriptor M91.1.desc).map (fun d => d.parameters.length) = some 4 := ⟨⟨gd_cw0 rfl q1408, q86, by decide, ⟨4, by decide⟩, by decide⟩, by decide⟩
theorem cal92 : gd_cal M92 ∧ (parseMethodDescriptor M92.1.desc).map (fun d => d.parameters.length) = some 2 := ⟨⟨gd_cw0 rfl q1412, q86, by decide, ⟨2, by decide⟩, by decide⟩, by decide⟩
theorem cal93 : gd_cal M93 ∧ (parseMethodDescriptor M93.1.desc).map (fun d => d.parameters.length) = some 3 := ⟨⟨gd_cw0 rfl q1416, q86, by decide, ⟨3, by decide⟩, by decide⟩, by decide⟩
theorem cal94 : gd_cal M94 ∧ (parseMethodDescriptor M94.1.desc).map (fun d => d.parameters.length) = some 1 := ⟨⟨gd_cw0 rfl q1420, q86, by decide, ⟨1, by decide⟩, by decide⟩, by decide⟩
theorem cal95 : gd_cal M95 ∧ (parseMethodDescriptor M95.1.desc).map (fun d => d.parameters.length) = some 6 := ⟨⟨gd_cw0 rfl q1431, q86, by decide, ⟨6, by decide⟩, by decide⟩, by decide⟩
theorem cal96 : gd_cal M96 ∧ (parseMethodDescriptor M96.1.desc).map (fun d => d.parameters.length) = some 2 := ⟨⟨gd_cw0 rfl q591, q100, by decide, ⟨2, by decide⟩, by decide⟩, by decide⟩
theorem cal97 : gd_cal M97 ∧ (parseMethodDescriptor M97.1.desc).map (fun d => d.parameters.length) = some 0 := ⟨⟨gd_cw0 rfl q638, q100, by decide, ⟨0, by decide⟩, by decide⟩, by decide⟩
theorem cal98 : gd_cal M98 ∧ (parseMethodDescriptor M98.1.desc).map (fun d => d.parameters.length) = some 1 := ⟨⟨gd_cw0 rfl q642, q100, by decide, ⟨1, by decide⟩, by decide⟩, by decide⟩
theorem cal99 : gd_cal M99 ∧ (parseMethodDescriptor M99.1.desc).map (fun d => d.parameters.length) = some 0 := ⟨⟨gd_cw0 rfl q650, q100, by decide, ⟨0, by decide⟩, by decide⟩, by decide⟩
theorem cal100 : gd_cal M100 ∧ (parseMethodDescriptor M100.1.desc).map (fun d => d.parameters.length) = some 1 := ⟨⟨gd_cw0 rfl q655, q100, by decide, ⟨1, by decide⟩, by decide⟩, by decide⟩
theorem cal101 : gd_cal M101 ∧ (parseMethodDescriptor M101.1.desc).map (fun d => d.parameters.length) = some 1 := ⟨⟨gd_cw0 rfl q659, q100, by decide, ⟨1, by decide⟩, by decide⟩, by decide⟩
theorem cal102 : gd_cal M102 ∧ (parseMethodDescriptor M102.1.desc).map (fun d => d.parameters.length) = some 1 := ⟨⟨gd_cw0 rfl q663, q100, by decide, ⟨1, by decide⟩, by decide⟩, by decide⟩
theorem cal103 : gd_cal M103 ∧ (parseMethodDescriptor M103.1.desc).map (fun d => d.parameters.length) = some 0 := ⟨⟨gd_cw0 rfl q747, q100, by decide, ⟨0, by decide⟩, by decide⟩, by decide⟩
theorem cal104 : gd_cal M104 ∧ (parseMethodDescriptor M104.1.desc).map (fun d => d.parameters.length) = some 2 := ⟨⟨gd_cw0 rfl q751, q100, by decide, ⟨2, by decide⟩, by decide⟩, by decide⟩
theorem cal105 : gd_cal M105 ∧ (parseMethodDescriptor M105.1.desc).map (fun d => d.parameters.length) = some 1 := ⟨⟨gd_cw0 rfl q754, q100, by decide, ⟨1, by decide⟩, by decide⟩, by decide⟩
theorem cal106 : gd_cal M106 ∧ (parseMethodDescriptor M106.1.desc).map (fun d => d.parameters.length) = some 1 := ⟨⟨gd_cw0 rfl q768, q100, by decide, ⟨1, by decide⟩, by decide⟩, by decide⟩
theorem cal107 : gd_cal M107 ∧ (parseMethodDescriptor M107.1.desc).map (fun d => d.parameters.length) = some 0 := ⟨⟨gd_cw0 rfl q825, q100, by decide, ⟨0, by decide⟩, by decide⟩, by decide⟩
theorem cal108 : gd_cal M108 ∧ (parseMethodDescriptor M108.1.desc).map (fun d => d.parameters.length) = some 0 := ⟨⟨gd_cw0 rfl q831, q100, by decide, ⟨0, by decide⟩, by decide⟩, by decide⟩
theorem cal109 : gd_cal M109 ∧ (parseMethodDescriptor M109.1.desc).map (fun d => d.parameters.length) = some 1 := ⟨⟨gd_cw0 rfl q874, q100, by decide, ⟨1, by decide⟩, by decide⟩, by decide⟩
theorem cal110 : gd_cal M110 ∧ (parseMethodDescriptor M110.1.desc).map (fun d => d.parameters.length) = some 0 := ⟨⟨gd_cw0 rfl q878, q100, by decide, ⟨0, by decide⟩, by decide⟩, by decide⟩
theorem cal111 : gd_cal M111 ∧ (parseMethodDescriptor M111.1.desc).map (fun d => d.parameters.length) = some 2 := ⟨⟨gd_cw0 rfl q723, q105, by decide, ⟨2, by decide⟩, by decide⟩, by decide⟩
theorem cal112 : gd_cal M112 ∧ (parseMethodDescriptor M112.1.desc).map (fun d => d.parameters.length) = some 1 := ⟨⟨gd_cw0 rfl q785, q107, by decide, ⟨1, by decide⟩, by decide⟩, by decide⟩
theorem cal113 : gd_cal M113 ∧ (parseMethodDescriptor M113.1.desc).map (fun d => d.parameters.length) = some 0 := ⟨⟨gd_cw0 rfl q806, q107, by decide, ⟨0, by decide⟩, by decide⟩, by decide⟩
theorem cal114 : gd_cal M114 ∧ (parseMethodDescriptor M114.1.desc).map (fun d => d.parameters.length) = some 0 := ⟨⟨gd_cw0 rfl q810, q107, by decide, ⟨0, by decide⟩, by decide⟩, by decide⟩
theorem cal115 : gd_cal M115 ∧ (parseMethodDescriptor M115.1.desc).map (fun d => d.parameters.length) = some 0 := ⟨⟨gd_cw0 rfl q814, q107, by decide, ⟨0, by decide⟩, by decide⟩, by decide⟩
theorem cal116 : gd_cal M116 ∧ (parseMethodDescriptor M116.1.desc).map (fun d => d.parameters.length) = some 0 := ⟨⟨gd_cw0 rfl q818, q107, by decide, ⟨0, by decide⟩, by decide⟩, by decide⟩
theorem cal117 : gd_cal M117 ∧ (parseMethodDescriptor M117.1.desc).map (fun d => d.parameters.length) = some 3 := ⟨⟨gd_cw0 rfl q836, q108, by decide, ⟨3, by decide⟩, by decide⟩, by decide⟩
theorem cal118 : gd_cal M118 ∧ (parseMethodDescriptor M118.1.desc).map (fun d => d.parameters.length) = some 1 := ⟨⟨gd_cw0 rfl q1103, q108, by decide, ⟨1, by decide⟩, by decide⟩, by decide⟩
theorem cal119 : gd_cal M119 ∧ (parseMethodDescriptor M119.1.desc).map (fun d => d.parameters.length) = some 1 := ⟨⟨gd_cw0 rfl q855, q109, by decide, ⟨1, by decide⟩, by decide⟩, by decide⟩
theorem cal120 : gd_cal M120 ∧ (parseMethodDescriptor M120.1.desc).map (fun d => d.parameters.length) = some 1 := ⟨⟨gd_cw0 rfl q1087, q109, by decide, ⟨1, by decide⟩, by decide⟩, by decide⟩
theorem cal121 : gd_cal M121 ∧ (parseMethodDescriptor M121.1.desc).map (fun d => d.parameters.length) = some 1 := ⟨⟨gd_cw0 rfl q865, q110, by decide, ⟨1, by decide⟩, by decide⟩, by decide⟩
theorem cal122 : gd_cal M122 ∧ (parseMethodDescriptor M122.1.desc).map (fun d => d.parameters.length) = some 1 := ⟨⟨gd_cw0 rfl q1093, q110, by decide, ⟨1, by decide⟩, by decide⟩, by decide⟩
theorem cal123 : gd_cal M123 ∧ (parseMethodDescriptor M123.1.desc).map (fun d => d.parameters.length) = some 2 := ⟨⟨gd_cw0 rfl q890, q111, by decide, ⟨2, by decide⟩, by decide⟩, by decide⟩
theorem cal124 : gd_cal M124 ∧ (parseMethodDescriptor M124.1.desc).map (fun d => d.parameters.length) = some 0 := ⟨⟨gd_cw0 rfl q914, q111, by decide, ⟨0, by decide⟩, by decide⟩, by decide⟩
theorem cal125 : gd_cal M125 ∧ (parseMethodDescriptor M125.1.desc).map (fun d => d.parameters.length) = some 0 := ⟨⟨gd_cw0 rfl q940, q111, by decide, ⟨0, by decide⟩, by decide⟩, by decide⟩
theorem cal126 : gd_cal M126 ∧ (parseMethodDescriptor M126.1.desc).map (fun d => d.parameters.length) = some 0 := ⟨⟨gd_cw0 rfl q952, q111, by decide, ⟨0, by decide⟩, by decide⟩, by decide⟩
theorem cal127 : gd_cal M127 ∧ (parseMethodDescriptor M127.1.desc).map (fun d => d.parameters.length) = some 0 := ⟨⟨gd_cw0 rfl q991, q111, by decide, ⟨0, by decide⟩, by decide⟩, by decide⟩
theorem cal128 : gd_cal M128 ∧ (parseMethodDescriptor M128.1.desc).map (fun d => d.parameters.length) = some 0 := ⟨⟨gd_cw0 rfl q922, q112, by decide, ⟨0, by decide⟩, by decide⟩, by decide⟩
theorem cal129 : gd_cal M129 ∧ (parseMethodDescriptor M129.1.desc).map (fun d => d.parameters.length) = some 1 := ⟨⟨gd_cw0 rfl q919, q113, by decide, ⟨1, by decide⟩, by decide⟩, by decide⟩
theorem cal130 : gd_cal M130 ∧ (parseMethodDescriptor M130.1.desc).map (fun d => d.parameters.length) = some 1 := ⟨⟨gd_cw0 rfl q997, q113, by decide, ⟨1, by decide⟩, by decide⟩, by decide⟩
theorem cal131 : gd_cal M131 ∧ (parseMethodDescriptor M131.1.desc).map (fun d => d.parameters.length) = some 1 := ⟨⟨gd_cw0 rfl q1027, q113, by decide, ⟨1, by decide⟩, by decide⟩, by decide⟩
theorem cal132 : gd_cal M132 ∧ (parseMethodDescriptor M132.1.desc).map (fun d => d.parameters.length) = some 2 := ⟨⟨gd_cw0 rfl q956, q114, by decide, ⟨2, by decide⟩, by decide⟩, by decide⟩
theorem cal133 : gd_cal M133 ∧ (parseMethodDescriptor M133.1.desc).map (fun d => d.parameters.length) = some 1 := ⟨⟨gd_cw0 rfl q1122, q114, by decide, ⟨1, by decide⟩, by decide⟩, by decide⟩
theorem cal134 : gd_cal M134 ∧ (parseMethodDescriptor M134.1.desc).map (fun d => d.parameters.length) = some 0 := ⟨⟨gd_cw0 rfl q132, q87, by decide, ⟨0, by decide⟩, by decide⟩, by decide⟩
theorem cal135 : gd_cal M135 ∧ (parseMethodDescriptor M135.1.desc).map (fun d => d.parameters.length) = some 1 := ⟨⟨gd_cw0 rfl q1077, q87, by decide, ⟨1, by decide⟩, by decide⟩, by decide⟩
theorem cal136 : gd_cal M136 ∧ (parseMethodDescriptor M136.1.desc).map (fun d => d.parameters.length) = some 3 := ⟨⟨gd_cw0 rfl q969, q115, by decide, ⟨3, by decide⟩, by decide⟩, by decide⟩
theorem cal137 : gd_cal M137 ∧ (parseMethodDescriptor M137.1.desc).map (fun d => d.parameters.length) = some 1 := ⟨⟨gd_cw0 rfl q1142, q115, by decide, ⟨1, by decide⟩, by decide⟩, by decide⟩
theorem cal138 : gd_cal M138 ∧ (parseMethodDescriptor M138.1.desc).map (fun d => d.parameters.length) = some 0 := ⟨⟨gd_cw0 rfl q985, q116, by decide, ⟨0, by decide⟩, by decide⟩, by decide⟩
theorem cal139 : gd_cal M139 ∧ (parseMethodDescriptor M139.1.desc).map (fun d => d.parameters.length) = some 1 := ⟨⟨gd_cw0 rfl q1041, q116, by decide, ⟨1, by decide⟩, by decide⟩, by decide⟩
theorem cal140 : gd_cal M140 ∧ (parseMethodDescriptor M140.1.desc).map (fun d => d.parameters.length) = some 1 := ⟨⟨gd_cw0 rfl q1004, q117, by decide, ⟨1, by decide⟩, by decide⟩, by decide⟩
theorem cal141 : gd_cal M141 ∧ (parseMethodDescriptor M141.1.desc).map (fun d => d.parameters.length) = some 0 := ⟨⟨gd_cw0 rfl q1031, q117, by decide, ⟨0, by decide⟩, by decide⟩, by decide⟩
theorem cal142 : gd_cal M142 ∧ (parseMethodDescriptor M142.1.desc).map (fun d => d.parameters.length) = some 1 := ⟨⟨gd_cw0 rfl q1035, q117, by decide, ⟨1, by decide⟩, by decide⟩, by decide⟩
theorem cal143 : gd_cal M143 ∧ (parseMethodDescriptor M143.1.desc).map (fun d => d.parameters.length) = some 1 := ⟨⟨gd_cw0 rfl q1119, q117, by decide, ⟨1, by decide⟩, by decide⟩, by decide⟩
theorem cal144 : gd_cal M144 ∧ (parseMethodDescriptor M144.1.desc).map (fun d => d.parameters.length) = some 1 := ⟨⟨gd_cw0 rfl q144, q88, by decide, ⟨1, by decide⟩, by decide⟩, by decide⟩
theorem cal145 : gd_cal M145 ∧ (parseMethodDescriptor M145.1.desc).map (fun d => d.parameters.length) = some 0 := ⟨⟨gd_cw0 rfl q348, q88, by decide, ⟨0, by decide⟩, by decide⟩, by decide⟩
theorem cal146 : gd_cal M146 ∧ (parseMethodDescriptor M146.1.desc).map (fun d => d.parameters.length) = some 1 := ⟨⟨gd_cw0 rfl q487, q88, by decide, ⟨1, by decide⟩, by decide⟩, by decide⟩
theorem cal147 : gd_cal M147 ∧ (parseMethodDescriptor M147.1.desc).map (fun d => d.parameters.length) = some 1 := ⟨⟨gd_cw0 rfl q151, q89, by decide, ⟨1, by decide⟩, by decide⟩, by decide⟩
theorem cal148 : gd_cal M148 ∧ (parseMethodDescriptor M148.1.desc).map (fun d => d.parameters.length) = some 1 := ⟨⟨gd_cw0 rfl q352, q89, by decide, ⟨1, by decide⟩, by decide⟩, by decide⟩
theorem cal149 : gd_cal M149 ∧ (parseMethodDescriptor M149.1.desc).map (fun d => d.parameters.length) = some 0 := ⟨⟨gd_cw0 rfl q450, q89, by decide, ⟨0, by decide⟩, by decide⟩, by decide⟩
theorem cal150 : gd_cal M150 ∧ (parseMethodDescriptor M150.1.desc).map (fun d => d.parameters.length) = some 1 := ⟨⟨gd_cw0 rfl q491, q89, by decide, ⟨1, by decide⟩, by decide⟩, by decide⟩
theorem cal151 : gd_cal M151 ∧ (parseMethodDescriptor M151.1.desc).map (fun d => d.parameters.length) = some 0 := ⟨⟨gd_cw0 rfl q1045, q89, by decide, ⟨0, by decide⟩, by decide⟩, by decide⟩
theorem cal152 : gd_cal M152 ∧ (parseMethodDescriptor M152.1.desc).map (fun d => d.parameters.length) = some 0 := ⟨⟨gd_cw0 rfl q1049, q89, by decide, ⟨0, by decide⟩, by decide⟩, by decide⟩
theorem cal153 : gd_cal M153 ∧ (parseMethodDescriptor M153.1.desc).map (fun d => d.parameters.length) = some 1 := ⟨⟨gd_cw0 rfl q1053, q89, by decide, ⟨1, by decide⟩, by decide⟩, by decide⟩
theorem cal154 : gd_cal M154 ∧ (parseMethodDescriptor M154.1.desc).map (fun d => d.parameters.length) = some 0 := ⟨⟨gd_cw0 rfl q1057, q89, by decide, ⟨0, by decide⟩, by decide⟩, by decide⟩
theorem cal155 : gd_cal M155 ∧ (parseMethodDescriptor M155.1.desc).map (fun d => d.parameters.length) = some 1 := ⟨⟨gd_cw0 rfl q1061, q89, by decide, ⟨1, by decide⟩, by decide⟩, by decide⟩
theorem cal156 : gd_cal M156 ∧ (parseMethodDescriptor M156.1.desc).map (fun d => d.parameters.length) = some 1 := ⟨⟨gd_cw0 rfl q1065, q89, by decide, ⟨1, by decide⟩, by decide⟩, by decide⟩
theorem cal157 : gd_cal M157 ∧ (parseMethodDescriptor M157.1.desc).map (fun d => d.parameters.length) = some 1 := ⟨⟨gd_cw0 rfl q1069, q89, by decide, ⟨1, by decide⟩, by decide⟩, by decide⟩
theorem cal158 : gd_cal M158 ∧ (parseMethodDescriptor M158.1.desc).map (fun d => d.parameters.length) = some 0 := ⟨⟨gd_cw0 rfl q1073, q89, by decide, ⟨0, by decide⟩, by decide⟩, by decide⟩
theorem cal159 : gd_cal M159 ∧ (parseMethodDescriptor M159.1.desc).map (fun d => d.parameters.length) = some 1 := ⟨⟨gd_cw0 rfl q1114, q89, by decide, ⟨1, by decide⟩, by decide⟩, by decide⟩
theorem cal160 : gd_cal M160 ∧ (parseMethodDescriptor M160.1.desc).map (fun d => d.parameters.length) = some 1 := ⟨⟨gd_cw0 rfl q1126, q89, by decide, ⟨1, by decide⟩, by decide⟩, by decide⟩
theorem cal161 : gd_cal M161 ∧ (parseMethodDescriptor M161.1.desc).map (fun d => d.parameters.length) = some 1 := ⟨⟨gd_cw0 rfl q1130, q89, by decide, ⟨1, by decide⟩, by decide⟩, by decide⟩
theorem cal162 : gd_cal M162 ∧ (parseMethodDescriptor M162.1.desc).map (fun d => d.parameters.length) = some 1 := ⟨⟨gd_cw0 rfl q1134, q89, by decide, ⟨1, by decide⟩, by decide⟩, by decide⟩
theorem cal163 : gd_cal M163 ∧ (parseMethodDescriptor M163.1.desc).map (fun d => d.parameters.length) = some 2 := ⟨⟨gd_cw0 rfl q1138, q89, by decide, ⟨2, by decide⟩, by decide⟩, by decide⟩
theorem cal164 : gd_cal M164 ∧ (parseMethodDescriptor M164.1.desc).map (fun d => d.parameters.length) = some 2 := ⟨⟨gd_cw0 rfl q1146, q89, by decide, ⟨2, by decide⟩, by decide⟩, by decide⟩
theorem cal165 : gd_cal M165 ∧ (parseMethodDescriptor M165.1.desc).map (fun d => d.parameters.length) = some 1 := ⟨⟨gd_cw0 rfl q1150, q89, by decide, ⟨1, by decide⟩, by decide⟩, by decide⟩
theorem cal166 : gd_cal M166 ∧ (parseMethodDescriptor M166.1.desc).map (fun d => d.parameters.length) = some 2 := ⟨⟨gd_cw0 rfl q1154, q89, by decide, ⟨2, by decide⟩, by decide⟩, by decide⟩
theorem cal167 : gd_cal M167 ∧ (parseMethodDescriptor M167.1.desc).map (fun d => d.parameters.length) = some 0 := ⟨⟨gd_cw0 rfl q1182, q89, by decide, ⟨0, by decide⟩, by decide⟩, by decide⟩
theorem cal168 : gd_cal M168 ∧ (parseMethodDescriptor M168.1.desc).map (fun d => d.parameters.length) = some 0 := ⟨⟨gd_cw0 rfl q1261, q89, by decide, ⟨0, by decide⟩, by decide⟩, by decide⟩
theorem cal169 : gd_cal M169 ∧ (parseMethodDescriptor M169.1.desc).map (fun d => d.parameters.length) = some 0 := ⟨⟨gd_cw0 rfl q157, q90, by decide, ⟨0, by decide⟩, by decide⟩, by decide⟩
theorem cal170 : gd_cal M170 ∧ (parseMethodDescriptor M170.1.desc).map (fun d => d.parameters.length) = some 1 := ⟨⟨gd_cw0 rfl q1097, q90, by decide, ⟨1, by decide⟩, by decide⟩, by decide⟩
theorem cal171 : gd_cal M171 ∧ (parseMethodDescriptor M171.1.desc).map (fun d => d.parameters.length) = some 0 := ⟨⟨gd_cw0 rfl q206, q91, by decide, ⟨0, by decide⟩, by decide⟩, by decide⟩
theorem cal172 : gd_cal M172 ∧ (parseMethodDescriptor M172.1.desc).map (fun d => d.parameters.length) = some 0 := ⟨⟨gd_cw0 rfl q324, q92, by decide, ⟨0, by decide⟩, by decide⟩, by decide⟩
theorem cal173 : gd_cal M173 ∧ (parseMethodDescriptor M173.1.desc).map (fun d => d.parameters.length) = some 1 := ⟨⟨gd_cw0 rfl q446, q92, by decide, ⟨1, by decide⟩, by decide⟩, by decide⟩
theorem cal174 : gd_cal M174 ∧ (parseMethodDescriptor M174.1.desc).map (fun d => d.parameters.length) = some 3 := ⟨⟨gd_cw0 rfl q460, q92, by decide, ⟨3, by decide⟩, by decide⟩, by decide⟩
theorem cal175 : gd_cal M175 ∧ (parseMethodDescriptor M175.1.desc).map (fun d => d.parameters.length) = some 0 := ⟨⟨gd_cw0 rfl q1435, q94, by decide, ⟨0, by decide⟩, by decide⟩, by decide⟩
theorem cal176 : gd_cal M176 ∧ (parseMethodDescriptor M176.1.desc).map (fun d => d.parameters.length) = some 0 := ⟨⟨gd_cw0 rfl q1440, q94, by decide, ⟨0, by decide⟩, by decide⟩, by decide⟩
theorem cal177 : gd_cal M177 ∧ (parseMethodDescriptor M177.1.desc).map (fun d => d.parameters.length) = some 0 := ⟨⟨gd_cw0 rfl q1445, q94, by decide, ⟨0, by decide⟩, by decide⟩, by decide⟩
theorem cal178 : gd_cal M178 ∧ (parseMethodDescriptor M178.1.desc).map (fun d => d.parameters.length) = some 0 := ⟨⟨gd_cw0 rfl q1449, q94, by decide, ⟨0, by decide⟩, by decide⟩, by decide⟩
theorem cal179 : gd_cal M179 ∧ (parseMethodDescriptor M179.1.desc).map (fun d => d.parameters.length) = some 3 := ⟨⟨gd_cw0 rfl q1453, q94, by decide, ⟨3, by decide⟩, by decide⟩, by decide⟩
theorem cal180 : gd_cal M180 ∧ (parseMethodDescriptor M180.1.desc).map (fun d => d.parameters.length) = some 5 := ⟨⟨gd_cw0 rfl q1630, q94, by decide, ⟨5, by decide⟩, by decide⟩, by decide⟩
theorem cal181 : gd_cal M181 ∧ (parseMethodDescriptor M181.1.desc).map (fun d => d.parameters.length) = some 0 := ⟨⟨gd_cw0 rfl q1634, q94, by decide, ⟨0, by decide⟩, by decide⟩, by decide⟩
theorem cal182 : gd_cal M182 ∧ (parseMethodDescriptor M182.1.desc).map (fun d => d.parameters.length) = some 1 := ⟨⟨gd_cw0 rfl q1638, q94, by decide, ⟨1, by decide⟩, by decide⟩, by decide⟩
theorem cal183 : gd_cal M183 ∧ (parseMethodDescriptor M183.1.desc).map (fun d => d.parameters.length) = some 3 := ⟨⟨gd_cw0 rfl q1642, q94, by decide, ⟨3, by decide⟩, by decide⟩, by decide⟩
theorem cal184 : gd_cal M184 ∧ (parseMethodDescriptor M184.1.desc).map (fun d => d.parameters.length) = some 1 := ⟨⟨gd_cw0 rfl q1646, q94, by decide, ⟨1, by decide⟩, by decide⟩, by decide⟩
theorem cal185 : gd_cal M185 ∧ (parseMethodDescriptor M185.1.desc).map (fun d => d.parameters.length) = some 0 := ⟨⟨gd_cw0 rfl q1650, q94, by decide, ⟨0, by decide⟩, by decide⟩, by decide⟩
theorem cal186 : gd_cal M186 ∧ (parseMethodDescriptor M186.1.desc).map (fun d => d.parameters.length) = some 0 := ⟨⟨gd_cw0 rfl q1654, q94, by decide, ⟨0, by decide⟩, by decide⟩, by decide⟩
theorem cal187 : gd_cal M187 ∧ (parseMethodDescriptor M187.1.desc).map (fun d => d.parameters.length) = some 0 := ⟨⟨gd_cw0 rfl q1658, q94, by decide, ⟨0, by decide⟩, by decide⟩, by decide⟩
theorem cal188 : gd_cal M188 ∧ (parseMethodDescriptor M188.1.desc).map (fun d => d.parameters.length) = some 0 := ⟨⟨gd_cw0 rfl q1662, q94, by decide, ⟨0, by decide⟩, by decide⟩, by decide⟩
theorem cal189 : gd_cal M189 ∧ (parseMethodDescriptor M189.1.desc).map (fun d => d.parameters.length) = some 1 := ⟨⟨gd_cw0 rfl q1665, q94, by decide, ⟨1, by decide⟩, by decide⟩, by decide⟩
theorem cal190 : gd_cal M190 ∧ (parseMethodDescriptor M190.1.desc).map (fun d => d.parameters.length) = some 1 := ⟨⟨gd_cw0 rfl q1668, q94, by decide, ⟨1, by decide⟩, by decide⟩, by decide⟩
theorem cal191 : gd_cal M191 ∧ (parseMethodDescriptor M191.1.desc).map (fun d => d.parameters.length) = some 1 := ⟨⟨gd_cw0 rfl q1672, q94, by decide, ⟨1, by decide⟩, by decide⟩, by decide⟩
theorem cal192 : gd_cal M192 ∧ (parseMethodDescriptor M192.1.desc).map (fun d => d.parameters.length) = some 2 := ⟨⟨gd_cw0 rfl q1681, q94, by decide, ⟨2, by decide⟩, by decide⟩, by decide⟩
theorem cal193 : gd_cal M193 ∧ (parseMethodDescriptor M193.1.desc).map (fun d => d.parameters.length) = some 0 := ⟨⟨gd_cw0 rfl q1685, q94, by decide, ⟨0, by decide⟩, by decide⟩, by decide⟩
theorem cal194 : gd_cal M194 ∧ (parseMethodDescriptor M194.1.desc).map (fun d => d.parameters.length) = some 1 := ⟨⟨gd_cw0 rfl q1689, q94, by decide, ⟨1, by decide⟩, by decide⟩, by decide⟩
theorem cal195 : gd_cal M195 ∧ (parseMethodDescriptor M195.1.desc).map (fun d => d.parameters.length) = some 2 := ⟨⟨gd_cw0 rfl q1693, q94, by decide, ⟨2, by decide⟩, by decide⟩, by decide⟩
theorem cal196 : gd_cal M196 ∧ (parseMethodDescriptor M196.1.desc).map (fun d => d.parameters.length) = some 1 := ⟨⟨gd_cw0 rfl q1696, q94, by decide, ⟨1, by decide⟩, by decide⟩, by decide⟩
theorem cal197 : gd_cal M197 ∧ (parseMethodDescriptor M197.1.desc).map (fun d => d.parameters.length) = some 0 := ⟨⟨gd_cw0 rfl q1700, q94, by decide, ⟨0, by decide⟩, by decide⟩, by decide⟩
theorem cal198 : gd_cal M198 ∧ (parseMethodDescriptor M198.1.desc).map (fun d => d.parameters.length) = some 1 := ⟨⟨gd_cw0 rfl q1704, q94, by decide, ⟨1, by decide⟩, by decide⟩, by decide⟩
theorem cal199 : gd_cal M199 ∧ (parseMethodDescriptor M199.1.desc).map (fun d => d.parameters.length) = some 1 := ⟨⟨gd_cw0 rfl q1708, q94, by decide, ⟨1, by decide⟩, by decide⟩, by decide⟩
theorem cal200 : gd_cal M200 ∧ (parseMethodDescriptor M200.1.desc).map (fun d => d.parameters.length) = some 1 := ⟨⟨gd_cw0 rfl q1712, q94, by decide, ⟨1, by decide⟩, by decide⟩, by decide⟩
theorem cal201 : gd_cal M201 ∧ (parseMethodDescriptor M201.1.desc).map (fun d => d.parameters.length) = some 0 := ⟨⟨gd_cw0 rfl q1716, q94, by decide, ⟨0, by decide⟩, by decide⟩, by decide⟩
theorem cal202 : gd_cal M202 ∧ (parseMethodDescriptor M202.1.desc).map (fun d => d.parameters.length) = some 0 := ⟨⟨gd_cw0 rfl q1720, q94, by decide, ⟨0, by decide⟩, by decide⟩, by decide⟩
theorem cal203 : gd_cal M203 ∧ (parseMethodDescriptor M203.1.desc).map (fun d => d.parameters.length) = some 0 := ⟨⟨gd_cw0 rfl q1724, q94, by decide, ⟨0, by decide⟩, by decide⟩, by decide⟩
theorem cal204 : gd_cal M204 ∧ (parseMethodDescriptor M204.1.desc).map (fun d => d.parameters.length) = some 1 := ⟨⟨gd_cw0 rfl q1728, q94, by decide, ⟨1, by decide⟩, by decide⟩, by decide⟩
theorem cal205 : gd_cal M205 ∧ (parseMethodDescriptor M205.1.desc).map (fun d => d.parameters.length) = some 2 := ⟨⟨gd_cw0 rfl q1732, q94, by decide, ⟨2, by decide⟩, by decide⟩, by decide⟩
theorem cal206 : gd_cal M206 ∧ (parseMethodDescriptor M206.1.desc).map (fun d => d.parameters.length) = some 2 := ⟨⟨gd_cw0 rfl q1737, q94, by decide, ⟨2, by decide⟩, by decide⟩, by decide⟩
theorem cal207 : gd_cal M207 ∧ (parseMethodDescriptor M207.1.desc).map (fun d => d.parameters.length) = some 0 := ⟨⟨gd_cw0 rfl q1742, q94, by decide, ⟨0, by decide⟩, by decide⟩, by decide⟩
theorem cal208 : gd_cal M208 ∧ (parseMethodDescriptor M208.1.desc).map (fun d => d.parameters.length) = some 1 := ⟨⟨gd_cw0 rfl q1751, q94, by decide, ⟨1, by decide⟩, by decide⟩, by decide⟩
theorem cal209 : gd_cal M209 ∧ (parseMethodDescriptor M209.1.desc).map (fun d => d.parameters.length) = some 0 := ⟨⟨gd_cw0 rfl q1755, q94, by decide, ⟨0, by decide⟩, by decide⟩, by decide⟩
theorem cal210 : gd_cal M210 ∧ (parseMethodDescriptor M210.1.desc).map (fun d => d.parameters.length) = some 3 := ⟨⟨gd_cw0 rfl q1759, q94, by decide, ⟨3, by decide⟩, by decide⟩, by decide⟩
theorem cal211 : gd_cal M211 ∧ (parseMethodDescriptor M211.1.desc).map (fun d => d.parameters.length) = some 0 := ⟨⟨gd_cw0 rfl q1770, q94, by decide, ⟨0, by decide⟩, by decide⟩, by decide⟩
theorem cal212 : gd_cal M212 ∧ (parseMethodDescriptor M212.1.desc).map (fun d => d.parameters.length) = some 2 := ⟨⟨gd_cw0 rfl q1774, q94, by decide, ⟨2, by decide⟩, by decide⟩, by decide⟩
theorem cal213 : gd_cal M213 ∧ (parseMethodDescriptor M213.1.desc).map (fun d => d.parameters.length) = some 3 := ⟨⟨gd_cw0 rfl q1778, q94, by decide, ⟨3, by decide⟩, by decide⟩, by decide⟩
theorem cal214 : gd_cal M214 ∧ (parseMethodDescriptor M214.1.desc).map (fun d => d.parameters.length) = some 1 := ⟨⟨gd_cw0 rfl q1782, q94, by decide, ⟨1, by decide⟩, by decide⟩, by decide⟩
theorem cal215 : gd_cal M215 ∧ (parseMethodDescriptor M215.1.desc).map (fun d => d.parameters.length) = some 1 := ⟨⟨gd_cw0 rfl q1786, q94, by decide, ⟨1, by decide⟩, by decide⟩, by decide⟩
theorem cal216 : gd_cal M216 ∧ (parseMethodDescriptor M216.1.desc).map (fun d => d.parameters.length) = some 1 := ⟨⟨gd_cw0 rfl q1790, q94, by decide, ⟨1, by decide⟩, by decide⟩, by decide⟩
theorem cal217 : gd_cal M217 ∧ (parseMethodDescriptor M217.1.desc).map (fun d => d.parameters.length) = some 2 := ⟨⟨gd_cw0 rfl q1794, q94, by decide, ⟨2, by decide⟩, by decide⟩, by decide⟩
theorem cal218 : gd_cal M218 ∧ (parseMethodDescriptor M218.1.desc).map (fun d => d.parameters.length) = some 2 := ⟨⟨gd_cw0 rfl q1798, q94, by decide, ⟨2, by decide⟩, by decide⟩, by decide⟩
theorem cal219 : gd_cal M219 ∧ (parseMethodDescriptor M219.1.desc).map (fun d => d.parameters.length) = some 0 := ⟨⟨gd_cw0 rfl q1802, q94, by decide, ⟨0, by decide⟩, by decide⟩, by decide⟩
theorem cal220 : gd_cal M220 ∧ (parseMethodDescriptor M220.1.desc).map (fun d => d.parameters.length) = some 1 := ⟨⟨gd_cw0 rfl q1806, q94, by decide, ⟨1, by decide⟩, by decide⟩, by decide⟩
theorem cal221 : gd_cal M221 ∧ (parseMethodDescriptor M221.1.desc).map (fun d => d.parameters.length) = some 0 := ⟨⟨gd_cw0 rfl q1810, q94, by decide, ⟨0, by decide⟩, by decide⟩, by decide⟩
theorem cal222 : gd_cal M222 ∧ (parseMethodDescriptor M222.1.desc).map (fun d => d.parameters.length) = some 1 := ⟨⟨gd_cw0 rfl q1814, q94, by decide, ⟨1, by decide⟩, by decide⟩, by decide⟩
theorem cal223 : gd_cal M223 ∧ (parseMethodDescriptor M223.1.desc).map (fun d => d.parameters.length) = some 1 := ⟨⟨gd_cw0 rfl q1818, q94, by decide, ⟨1, by decide⟩, by decide⟩, by decide⟩
theorem cal224 : gd_cal M224 ∧ (parseMethodDescriptor M224.1.desc).map (fun d => d.parameters.length) = some 8 := ⟨⟨gd_cw0 rfl q1822, q94, by decide, ⟨8, by decide⟩, by decide⟩, by decide⟩
theorem cal225 : gd_cal M225 ∧ (parseMethodDescriptor M225.1.desc).map (fun d => d.parameters.length) = some 0 := ⟨⟨gd_cw0 rfl q1826, q94, by decide, ⟨0, by decide⟩, by decide⟩, by decide⟩
theorem cal226 : gd_cal M226 ∧ (parseMethodDescriptor M226.1.desc).map (fun d => d.parameters.length) = some 0 := ⟨⟨gd_cw0 rfl q1830, q94, by decide, ⟨0, by decide⟩, by decide⟩, by decide⟩
theorem cal227 : gd_cal M227 ∧ (parseMethodDescriptor M227.1.desc).map (fun d => d.parameters.length) = some 3 := ⟨⟨gd_cw0 rfl q1833, q94, by decide, ⟨3, by decide⟩, by decide⟩, by decide⟩
theorem cal228 : gd_cal M228 ∧ (parseMethodDescriptor M228.1.desc).map (fun d => d.parameters.length) = some 1 := ⟨⟨gd_cw0 rfl q1836, q94, by decide, ⟨1, by decide⟩, by decide⟩, by decide⟩
theorem cal229 : gd_cal M229 ∧ (parseMethodDescriptor M229.1.desc).map (fun d => d.parameters.length) = some 1 := ⟨⟨gd_cw0 rfl q1840, q94, by decide, ⟨1, by decide⟩, by decide⟩, by decide⟩
theorem cal230 : gd_cal M230 ∧ (parseMethodDescriptor M230.1.desc).map (fun d => d.parameters.length) = some 1 := ⟨⟨gd_cw0 rfl q1844, q94, by decide, ⟨1, by decide⟩, by decide⟩, by decide⟩
theorem cal231 : gd_cal M231 ∧ (parseMethodDescriptor M231.1.desc).map (fun d => d.parameters.length) = some 0 := ⟨⟨gd_cw0 rfl q1848, q94, by decide, ⟨0, by decide⟩, by decide⟩, by decide⟩
theorem cal232 : gd_cal M232 ∧ (parseMethodDescriptor M232.1.desc).map (fun d => d.parameters.length) = some 1 := ⟨⟨gd_cw0 rfl q1852, q94, by decide, ⟨1, by decide⟩, by decide⟩, by decide⟩
theorem cal233 : gd_cal M233 ∧ (parseMethodDescriptor M233.1.desc).map (fun d => d.parameters.length) = some 3 := ⟨⟨gd_cw0 rfl q1855, q94, by decide, ⟨3, by decide⟩, by decide⟩, by decide⟩
theorem cal234 : gd_cal M234 ∧ (parseMethodDescriptor M234.1.desc).map (fun d => d.parameters.length) = some 1 := ⟨⟨gd_cw0 rfl q1859, q94, by decide, ⟨1, by decide⟩, by decide⟩, by decide⟩
theorem cal235 : gd_cal M235 ∧ (parseMethodDescriptor M235.1.desc).map (fun d => d.parameters.length) = some 0 := ⟨⟨gd_cw0 rfl q1863, q94, by decide, ⟨0, by decide⟩, by decide⟩, by decide⟩
theorem cal236 : gd_cal M236 ∧ (parseMethodDescriptor M236.1.desc).map (fun d => d.parameters.length) = some 2 := ⟨⟨gd_cw0 rfl q1867, q94, by decide, ⟨2, by decide⟩, by decide⟩, by decide⟩
theorem cal237 : gd_cal M237 ∧ (parseMethodDescriptor M237.1.desc).map (fun d => d.parameters.length) = some 2 := ⟨⟨gd_cw0 rfl q1871, q94, by decide, ⟨2, by decide⟩, by decide⟩, by decide⟩
theorem cal238 : gd_cal M238 ∧ (parseMethodDescriptor M238.1.desc).map (fun d => d.parameters.length) = some 2 := ⟨⟨gd_cw0 rfl q1875, q94, by decide, ⟨2, by decide⟩, by decide⟩, by decide⟩
theorem cal239 : gd_cal M239 ∧ (parseMethodDescriptor M239.1.desc).map (fun d => d.parameters.length) = some 2 := ⟨⟨gd_cw0 rfl q1879, q94, by decide, ⟨2, by decide⟩, by decide⟩, by decide⟩
theorem cal240 : gd_cal M240 ∧ (parseMethodDescriptor M240.1.desc).map (fun d => d.parameters.length) = some 1 := ⟨⟨gd_cw0 rfl q1883, q94, by decide, ⟨1, by decide⟩, by decide⟩, by decide⟩
theorem cal241 : gd_cal M241 ∧ (parseMethodDescriptor M241.1.desc).map (fun d => d.parameters.length) = some 8 := ⟨⟨gd_cw0 rfl q1887, q94, by decide, ⟨8, by decide⟩, by decide⟩, by decide⟩
theorem cal242 : gd_cal M242 ∧ (parseMethodDescriptor M242.1.desc).map (fun d => d.parameters.length) = some 2 := ⟨⟨gd_cw0 rfl q1891, q94, by decide, ⟨2, by decide⟩, by decide⟩, by decide⟩
theorem cal243 : gd_cal M243 ∧ (parseMethodDescriptor M243.1.desc).map (fun d => d.parameters.length) = some 0 := ⟨⟨gd_cw0 rfl q1895, q94, by decide, ⟨0, by decide⟩, by decide⟩, by decide⟩
theorem cal244 : gd_cal M244 ∧ (parseMethodDescriptor M244.1.desc).map (fun d => d.parameters.length) = some 2 := ⟨⟨gd_cw0 rfl q1899, q94, by decide, ⟨2, by decide⟩, by decide⟩, by decide⟩
theorem cal245 : gd_cal M245 ∧ (parseMethodDescriptor M245.1.desc).map (fun d => d.parameters.length) = some 1 := ⟨⟨gd_cw0 rfl q1903, q94, by decide, ⟨1, by decide⟩, by decide⟩, by decide⟩
theorem cal246 : gd_cal M246 ∧ (parseMethodDescriptor M246.1.desc).map (fun d => d.parameters.length) = some 2 := ⟨⟨gd_cw0 rfl q1907, q94, by decide, ⟨2, by decide⟩, by decide⟩, by decide⟩
theorem cal247 : gd_cal M247 ∧ (parseMethodDescriptor M247.1.desc).map (fun d => d.parameters.length) = some 0 := ⟨⟨gd_cw0 rfl q1911, q94, by decide, ⟨0, by decide⟩, by decide⟩, by decide⟩
theorem cal248 : gd_cal M248 ∧ (parseMethodDescriptor M248.1.desc).map (fun d => d.parameters.length) = some 0 := ⟨⟨gd_cw0 rfl q1915, q94, by decide, ⟨0, by decide⟩, by decide⟩, by decide⟩
theorem cal249 : gd_cal M249 ∧ (parseMethodDescriptor M249.1.desc).map (fun d => d.parameters.length) = some 2 := ⟨⟨gd_cw0 rfl q1919, q94, by decide, ⟨2, by decide⟩, by decide⟩, by decide⟩
theorem cal250 : gd_cal M250 ∧ (parseMethodDescriptor M250.1.desc).map (fun d => d.parameters.length) = some 1 := ⟨⟨gd_cw0 rfl q1922, q94, by decide, ⟨1, by decide⟩, by decide⟩, by decide⟩
theorem cal251 : gd_cal M251 ∧ (parseMethodDescriptor M251.1.desc).map (fun d => d.parameters.length) = some 2 := ⟨⟨gd_cw0 rfl q1926, q94, by decide, ⟨2, by decide⟩, by decide⟩, by decide⟩
theorem cal252 : gd_cal M252 ∧ (parseMethodDescriptor M252.1.desc).map (fun d => d.parameters.length) = some 0 := ⟨⟨gd_cw0 rfl q1930, q94, by decide, ⟨0, by decide⟩, by decide⟩, by decide⟩
theorem cal253 : gd_cal M253 ∧ (parseMethodDescriptor M253.1.desc).map (fun d => d.parameters.length) = some 1 := ⟨⟨gd_cw0 rfl q1933, q94, by decide, ⟨1, by decide⟩, by decide⟩, by decide⟩
theorem cal254 : gd_cal M254 ∧ (parseMethodDescriptor M254.1.desc).map (fun d => d.parameters.length) = some 1 := ⟨⟨gd_cw0 rfl q1937, q94, by decide, ⟨1, by decide⟩, by decide⟩, by decide⟩
theorem cal255 : gd_cal M255 ∧ (parseMethodDescriptor M255.1.desc).map (fun d => d.parameters.length) = some 0 := ⟨⟨gd_cw0 rfl q1941, q94, by decide, ⟨0, by decide⟩, by decide⟩, by decide⟩
theorem cal256 : gd_cal M256 ∧ (parseMethodDescriptor M256.1.desc).map (fun d => d.parameters.length) = some 0 := ⟨⟨gd_cw0 rfl q1945, q94, by decide, ⟨0, by decide⟩, by decide⟩, by decide⟩
theorem cal257 : gd_cal M257 ∧ (parseMethodDescriptor M257.1.desc).map (fun d => d.parameters.length) = some 1 := ⟨⟨gd_cw0 rfl q1949, q94, by decide, ⟨1, by decide⟩, by decide⟩, by decide⟩
theorem cal258 : gd_cal M258 ∧ (parseMethodDescriptor M258.1.desc).map (fun d => d.parameters.length) = some 2 := ⟨⟨gd_cw0 rfl q1953, q94, by decide, ⟨2, by decide⟩, by decide⟩, by decide⟩
theorem cal259 : gd_cal M259 ∧ (parseMethodDescriptor M259.1.desc).map (fun d => d.parameters.length) = some 1 := ⟨⟨gd_cw0 rfl q1957, q94, by decide, ⟨1, by decide⟩, by decide⟩, by decide⟩
theorem cal260 : gd_cal M260 ∧ (parseMethodDescriptor M260.1.desc).map (fun d => d.parameters.length) = some 2 := ⟨⟨gd_cw0 rfl q1961, q94, by decide, ⟨2, by decide⟩, by decide⟩, by decide⟩
theorem cal261 : gd_cal M261 ∧ (parseMethodDescriptor M261.1.desc).map (fun d => d.parameters.length) = some 4 := ⟨⟨gd_cw0 rfl q1965, q94, by decide, ⟨4, by decide⟩, by decide⟩, by decide⟩
theorem cal262 : gd_cal M262 ∧ (parseMethodDescriptor M262.1.desc).map (fun d => d.parameters.length) = some 3 := ⟨⟨gd_cw0 rfl q1969, q94, by decide, ⟨3, by decide⟩, by decide⟩, by decide⟩
theorem cal263 : gd_cal M263 ∧ (parseMethodDescriptor M263.1.desc).map (fun d => d.parameters.length) = some 3 := ⟨⟨gd_cw0 rfl q1973, q94, by decide, ⟨3, by decide⟩, by decide⟩, by decide⟩
theorem cal264 : gd_cal M264 ∧ (parseMethodDescriptor M264.1.desc).map (fun d => d.parameters.length) = some 4 := ⟨⟨gd_cw0 rfl q1976, q94, by decide, ⟨4, by decide⟩, by decide⟩, by decide⟩
theorem cal265 : gd_cal M265 ∧ (parseMethodDescriptor M265.1.desc).map (fun d => d.parameters.length) = some 3 := ⟨⟨gd_cw0 rfl q1980, q94, by decide, ⟨3, by decide⟩, by decide⟩, by decide⟩
theorem cal266 : gd_cal M266 ∧ (parseMethodDescriptor M266.1.desc).map (fun d => d.parameters.length) = some 2 := ⟨⟨gd_cw0 rfl q1984, q94, by decide, ⟨2, by decide⟩, by decide⟩, by decide⟩
theorem cal267 : gd_cal M267 ∧ (parseMethodDescriptor M267.1.desc).map (fun d => d.parameters.length) = some 1 := ⟨⟨gd_cw0 rfl q1988, q94, by decide, ⟨1, by decide⟩, by decide⟩, by decide⟩
theorem cal268 : gd_cal M268 ∧ (parseMethodDescriptor M268.1.desc).map (fun d => d.parameters.length) = some 1 := ⟨⟨gd_cw0 rfl q1992, q94, by decide, ⟨1, by decide⟩, by decide⟩, by decide⟩
theorem cal269 : gd_cal M269 ∧ (parseMethodDescriptor M269.1.desc).map (fun d => d.parameters.length) = some 1 := ⟨⟨gd_cw0 rfl q1996, q94, by decide, ⟨1, by decide⟩, by decide⟩, by decide⟩
theorem cal270 : gd_cal M270 ∧ (parseMethodDescriptor M270.1.desc).map (fun d => d.parameters.length) = some 1 := ⟨⟨gd_cw0 rfl q2000, q94, by decide, ⟨1, by decide⟩, by decide⟩, by decide⟩
theorem cal271 : gd_cal M271 ∧ (parseMethodDescriptor M271.1.desc).map (fun d => d.parameters.length) = some 1 := ⟨⟨gd_cw0 rfl q2004, q94, by decide, ⟨1, by decide⟩, by decide⟩, by decide⟩
theorem cal272 : gd_cal M272 ∧ (parseMethodDescriptor M272.1.desc).map (fun d => d.parameters.length) = some 1 := ⟨⟨gd_cw0 rfl q2008, q94, by decide, ⟨1, by decide⟩, by decide⟩, by decide⟩
theorem cal273 : gd_cal M273 ∧ (parseMethodDescriptor M273.1.desc).map (fun d => d.parameters.length) = some 4 := ⟨⟨gd_cw0 rfl q2012, q94, by decide, ⟨4, by decide⟩, by decide⟩, by decide⟩
theorem cal274 : gd_cal M274 ∧ (parseMethodDescriptor M274.1.desc).map (fun d => d.parameters.length) = some 2 := ⟨⟨gd_cw0 rfl q2015, q94, by decide, ⟨2, by decide⟩, by decide⟩, by decide⟩
theorem cal275 : gd_cal M275 ∧ (parseMethodDescriptor M275.1.desc).map (fun d => d.parameters.length) = some 3 := ⟨⟨gd_cw0 rfl q2019, q94, by decide, ⟨3, by decide⟩, by decide⟩, by decide⟩
theorem cal276 : gd_cal M276 ∧ (parseMethodDescriptor M276.1.desc).map (fun d => d.parameters.length) = some 1 := ⟨⟨gd_cw0 rfl q2023, q94, by decide, ⟨1, by decide⟩, by decide⟩, by decide⟩
theorem cal277 : gd_cal M277 ∧ (parseMethodDescriptor M277.1.desc).map (fun d => d.parameters.length) = some 6 := ⟨⟨gd_cw0 rfl q2028, q94, by decide, ⟨6, by decide⟩, by decide⟩, by decide⟩
theorem cal278 : gd_cal M278 ∧ (parseMethodDescriptor M278.1.desc).map (fun d => d.parameters.length) = some 0 := ⟨⟨gd_cw0 rfl q2032, q94, by decide, ⟨0, by decide⟩, by decide⟩, by decide⟩
theorem cal279 : gd_cal M279 ∧ (parseMethodDescriptor M279.1.desc).map (fun d => d.parameters.length) = some 2 := ⟨⟨gd_cw0 rfl q2036, q94, by decide, ⟨2, by decide⟩, by decide⟩, by decide⟩
theorem cal280 : gd_cal M280 ∧ (parseMethodDescriptor M280.1.desc).map (fun d => d.parameters.length) = some 4 := ⟨⟨gd_cw0 rfl q2040, q94, by decide, ⟨4, by decide⟩, by decide⟩, by decide⟩
theorem cal281 : gd_cal M281 ∧ (parseMethodDescriptor M281.1.desc).map (fun d => d.parameters.length) = some 0 := ⟨⟨gd_cw0 rfl q2044, q94, by decide, ⟨0, by decide⟩, by decide⟩, by decide⟩
theorem cal282 : gd_cal M282 ∧ (parseMethodDescriptor M282.1.desc).map (fun d => d.parameters.length) = some 1 := ⟨⟨gd_cw0 rfl q2048, q94, by decide, ⟨1, by decide⟩, by decide⟩, by decide⟩
theorem cal283 : gd_cal M283 ∧ (parseMethodDescriptor M283.1.desc).map (fun d => d.parameters.length) = some 1 := ⟨⟨gd_cw0 rfl q2052, q94, by decide, ⟨1, by decide⟩, by decide⟩, by decide⟩
theorem cal284 : gd_cal M284 ∧ (parseMethodDescriptor M284.1.desc).map (fun d => d.parameters.length) = some 1 := ⟨⟨gd_cw0 rfl q608, q99, by decide, ⟨1, by decide⟩, by decide⟩, by decide⟩
theorem cal285 : gd_cal M285 ∧ (parseMethodDescriptor M285.1.desc).map (fun d => d.parameters.length) = some 0 := ⟨⟨gd_cw0 rfl q634, q99, by decide, ⟨0, by decide⟩, by decide⟩, by decide⟩
theorem cal286 : gd_cal M286 ∧ (parseMethodDescriptor M286.1.desc).map (fun d => d.parameters.length) = some 0 := ⟨⟨gd_cw0 rfl q646, q99, by decide, ⟨0, by decide⟩, by decide⟩, by decide⟩
theorem cal287 : gd_cal M287 ∧ (parseMethodDescriptor M287.1.desc).map (fun d => d.parameters.length) = some 1 := ⟨⟨gd_cw0 rfl q743, q99, by decide, ⟨1, by decide⟩, by decide⟩, by decide⟩
theorem cal288 : gd_cal M288 ∧ (parseMethodDescriptor M288.1.desc).map (fun d => d.parameters.length) = some 0 := ⟨⟨gd_cw0 rfl q764, q99, by decide, ⟨0, by decide⟩, by decide⟩, by decide⟩
def gd_tkF : List (Nat × Nat) := [(14, 120), (15, 122), (13, 118)]
theorem gd_allF : ∀ t k', (t, k') ∈ gd_tkF → ∃ w, gd_cl t = some w ∧ ((gd_mt k').2.2.2.2 = [] ∧ Cond.code (gd_mt k').1 (gd_mt k').2.1 (gd_mt k').2.2.1 (gd_mt k').2.2.2.1 ∈ lw_all) ∧ Cond.initialized (gd_mt k').1.cls ∈ lw_all ∧ (gd_mt k').2.2.1 ≤ 40 ∧ Cond.selects w.1 (⟨"GrowingDoor$Term", "on", "(LGrowingDoor$Sight;)I"⟩ : MethodName) (gd_mt k').1 ∈ lw_all ∧ Cond.instanceMethod (gd_mt k').1 ∈ lw_all ∧ ∀ G s, KN G s → va_Fw w.1 gd_on (gd_mt k').1 s := by
  intro t k' h
  unfold gd_tkF at h
  simp only [List.mem_cons, Prod.mk.injEq, List.not_mem_nil, or_false] at h
  rcases h with ⟨rfl, rfl⟩ | ⟨rfl, rfl⟩ | ⟨rfl, rfl⟩
  · rw [e120]; exact ⟨_, rfl, ⟨rfl, q1087⟩, q109, by decide, q1083, q1085, fun G s h => h.2.2.2.2.2.2.2.2.2.2.2.1⟩
  · rw [e122]; exact ⟨_, rfl, ⟨rfl, q1093⟩, q110, by decide, q1089, q1091, fun G s h => h.2.2.2.2.2.2.2.2.2.2.2.2.1⟩
  · rw [e118]; exact ⟨_, rfl, ⟨rfl, q1103⟩, q108, by decide, q1099, q1101, fun G s h => h.2.2.2.2.2.2.2.2.2.2.2.2.2.1⟩
def gd_tkU : List (Nat × Nat) := [(18, 131), (19, 133), (20, 137), (21, 139)]
theorem gd_allU : ∀ t k', (t, k') ∈ gd_tkU → ∃ w, gd_cl t = some w ∧ ((gd_mt k').2.2.2.2 = [] ∧ Cond.code (gd_mt k').1 (gd_mt k').2.1 (gd_mt k').2.2.1 (gd_mt k').2.2.2.1 ∈ lw_all) ∧ Cond.initialized (gd_mt k').1.cls ∈ lw_all ∧ (gd_mt k').2.2.1 ≤ 40 ∧ Cond.selects w.1 (⟨"GrowingDoor$Step", "acts", "(LGrowingDoor$Run;)V"⟩ : MethodName) (gd_mt k').1 ∈ lw_all ∧ Cond.instanceMethod (gd_mt k').1 ∈ lw_all ∧ True := by
  intro t k' h
  unfold gd_tkU at h
  simp only [List.mem_cons, Prod.mk.injEq, List.not_mem_nil, or_false] at h
  rcases h with ⟨rfl, rfl⟩ | ⟨rfl, rfl⟩ | ⟨rfl, rfl⟩ | ⟨rfl, rfl⟩
  · rw [e131]; exact ⟨_, rfl, ⟨rfl, q1027⟩, q113, by decide, q1156, q1025, trivial⟩
  · rw [e133]; exact ⟨_, rfl, ⟨rfl, q1122⟩, q114, by decide, q1120, q1121, trivial⟩
  · rw [e137]; exact ⟨_, rfl, ⟨rfl, q1142⟩, q115, by decide, q1140, q1141, trivial⟩
  · rw [e139]; exact ⟨_, rfl, ⟨rfl, q1041⟩, q116, by decide, q1039, q1040, trivial⟩

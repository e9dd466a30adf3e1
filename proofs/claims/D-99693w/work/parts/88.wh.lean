/-! ===== WORK: the class runs a step ===== -/
set_option maxRecDepth 100000
theorem RJ.pi {E : gdE} {r : gdR} (h : RJ E r) : ∃ m, m ≤ 400 ∧ RI E m r := h
/-- the ends of a simple step's act -/
theorem ac143 {h : gd_H} {I I2 : Nat → Nat → Int32} {ν a σ : Nat} {E : gdE} {s : gdT} {k x y : Nat} (hw : WT (wI h I) ν a σ E s) (hb : s.2.1 < 200) (hx : XC I2 a σ E (-1) (if pStB E k x y s.1 = true then pSt E k x y s.1 else s.1)) (hI : ∀ b, (b < a ∨ a + 8 < b) → I2 b = up1 I ν 1 (Int32.ofNat (s.2.1 + 1)) b) (hr : pStB E k x y s.1 = true → RJ E (pSt E k x y s.1)) {d : Nat} (hd : 1 ≤ d) :
    ∃ I', run gd_P0 d 143 [.ref ν, .int (if pStB E k x y s.1 = true then 1 else 0)] (wI h I2) = some (.inl none, wI h I') ∧ WT (wI h I') ν a σ E (pOne E k x y s) ∧ WF I I' ν a := sp143 hw hb hx hI hr hd
theorem pStB_eq {r : gdR} {j : Nat} {v : Int32} {B : Bool} (hB : B = !decide (r j = v)) : (if r j = v then (0 : Int32) else 1) = (if B = true then 1 else 0) ∧ (if B = true then rw1 r j v else r) = rw1 r j v := by
  subst hB
  by_cases c : r j = v
  · rw [if_pos c, decide_eq_true c, rw1_id c]
    exact ⟨rfl, rfl⟩
  · rw [if_neg c, decide_eq_false c]
    exact ⟨rfl, rfl⟩
theorem sp142 {h : gd_H} {ν a σ lo hi : Nat} {E : gdE} (hν : ν < lo ∨ hi ≤ ν) (hlo : 1264 < lo) : ∀ (n t : Nat) (V : gdT → gdT), RWs h lo hi E n t V → ∀ d, 186 + 2 * n ≤ d → AC h ν a σ E lo hi t V d
  | 0, t, V, hh, d, hd => hh.elim
  | n + 1, t, V, hh, d, hd => by
    intro I s hI hw hb
    obtain ⟨d, rfl⟩ : ∃ e, d = e + 2 := ⟨d - 2, by omega⟩
    obtain ⟨⟨a1, a2⟩, hh⟩ := hh
    obtain ⟨⟨tν, r0, hν1, νσ⟩, ⟨i1, i2, i3⟩, ⟨ss, xc, lw⟩, ei, rj, b1, b2⟩ := id hw
    have a12 : a + 16 ≤ 1212 := ss.1.2.1
    have σ12 : 1223 < σ := ss.1.2.2
    have tν : gT h ν = 22 := tν
    have r0 : gR h ν 0 = a := r0
    have i1 : I ν 1 = Int32.ofNat s.2.1 := i1
    have xc : XC I a σ E (-1) s.1 := xc
    have ta : gT h a = 4 := ss.2.1.1
    have eN7 := xc.1.2
    have eB6 := xc.1.1
    have It := hI t a1 a2
    generalize eI : up1 I ν 1 (Int32.ofNat (s.2.1 + 1)) = I1
    have tν' : t ≠ ν := by rcases hν with z | z <;> omega
    have I1t : I1 t = gI h t := by rw [← eI, up1_nc _ _ _ tν']; exact It
    have xc1 : XC (gI (wI h I1)) a σ E (-1) s.1 := by rw [gI_wI, ← eI]; exact xc.fr2 fun b hb => up1_nc _ _ _ (by omega)
    have lw1 : LWx (wI h I1) (eL E) := LWx.t (h := wI h I) lw fun b h1 h2 => by
      have : b ≠ ν := fun z => h2 (by rw [z]; exact tν)
      rw [← eI, up1_nc _ _ _ this]; rfl
    have ss1 : SS (wI h I1) a σ := ss
    obtain ⟨m, hm, ri⟩ := rj
    have mk : ∀ {I2 : Nat → Nat → Int32}, (∀ b, (b < a ∨ a + 8 < b) → I2 b = gI (wI h I1) b) → ∀ b, (b < a ∨ a + 8 < b) → I2 b = up1 I ν 1 (Int32.ofNat (s.2.1 + 1)) b := fun f b hb => by rw [eI]; exact f b hb
    have e0 : ∀ {k9 : Nat}, slk gd_tkU (gT h t) = some k9 → run gd_P0 (d + 2) 142 [.ref ν, .ref t] (wI h I) = gc gd_P0 (d + 1) 142 12 15 [.ref ν, .ref t] [] (run gd_P0 (d + 1) k9 [.ref t, .ref ν] (wI h I1)) := by
      intro k9 hk
      rw [r142, s142_0, gT_wI, if_pos tν, if_pos tν, hk, gI_wI, i1, j_s, wI_wI, eI]
    rcases hh with ⟨ht, k, x, hk, hp, j0, j1, rfl⟩ | ⟨ht, k, x, y, u, v, hp, hk, j0, j1, j2, rfl⟩ | ⟨ht, rfl⟩ | ⟨ht, tm, q, arr, Vi, y1, y2, y3, y4, y5, ⟨y6, y6'⟩, y7, y8, y9, rfl⟩
    · have k0 : gI (wI h I1) t 0 = Int32.ofNat k := by rw [gI_wI, I1t]; exact j0
      have k1 : gI (wI h I1) t 1 = Int32.ofNat x := by rw [gI_wI, I1t]; exact j1
      rw [e0 (k9 := 133) (by rw [ht]; rfl), r133, s133_0, gT_wI, if_pos ht, k0, k1, gR_wI, r0]
      have fin : ∀ (B : Bool) (I2 : Nat → Nat → Int32), B = pStB E k x 0 s.1 → XC I2 a σ E (-1) (if pStB E k x 0 s.1 = true then pSt E k x 0 s.1 else s.1) → (∀ b, (b < a ∨ a + 8 < b) → I2 b = gI (wI h I1) b) → (pStB E k x 0 s.1 = true → RJ E (pSt E k x 0 s.1)) → ∃ I', gc gd_P0 (d + 1) 142 12 15 [.ref ν, .ref t] [] (go gd_P0 d 133 46 [.null, .null] [.int (if B = true then 1 else 0), .ref ν] (wI h I2)) = some (.inl none, wI h I') ∧ WT (wI h I') ν a σ E (pOne E k x 0 s) ∧ WF I I' ν a := by
        rintro B I2 rfl hx hI2 hr
        obtain ⟨I', e', w', f'⟩ := ac143 hw hb hx (mk hI2) hr (d := d) (by omega)
        exact ⟨I', by rw [s133_46, gT_wI, if_pos tν, e', gc_n, s133_49, gc_n, s142_15], w', f'⟩
      rcases hk with rfl | rfl | rfl
      · have hx : x < eN E := by unfold POK at hp; omega
        obtain ⟨I2, e2, x2, f2⟩ := sp160 (d := d) (by omega) ss1 xc1 ri x hx
        rw [if_pos (show Int32.ofNat 0 = 0 from rfl), if_pos tν, if_pos ht, if_pos ta, e2, gc_v, s133_19, wI_wI]
        exact fin (pNoB E s.1 x) I2 rfl x2 f2 (fun _ => ⟨m, hm, ri.no (by omega)⟩)
      · have hx : x < eN E := by unfold POK at hp; omega
        obtain ⟨I2, e2, x2, f2⟩ := sp163 (d := d) (by omega) ss1 xc1 x hx 0 (Or.inl rfl)
        obtain ⟨q1, q2⟩ := pStB_eq (r := s.1) (j := 35 + x) (v := 0) (B := pStB E 4 x 0 s.1) rfl
        rw [if_neg (show ¬ Int32.ofNat 4 = 0 by decide), if_pos tν, if_pos ht, if_pos ht, if_neg (show ¬ Int32.ofNat 4 = 5 by decide), s133_43, gT_wI, if_pos ta, e2, gc_v, wI_wI, q1]
        exact fin _ I2 rfl (by rw [show pSt E 4 x 0 s.1 = rw1 s.1 (35 + x) 0 from rfl, q2]; exact x2) f2 (fun _ => ⟨m, hm, ri.rw (Or.inr (Or.inl ⟨by omega, by omega, Or.inl rfl⟩))⟩)
      · have hx : x < eN E := by unfold POK at hp; omega
        obtain ⟨I2, e2, x2, f2⟩ := sp163 (d := d) (by omega) ss1 xc1 x hx 1 (Or.inr rfl)
        obtain ⟨q1, q2⟩ := pStB_eq (r := s.1) (j := 35 + x) (v := 1) (B := pStB E 5 x 0 s.1) rfl
        rw [if_neg (show ¬ Int32.ofNat 5 = 0 by decide), if_pos tν, if_pos ht, if_pos ht, if_pos (show Int32.ofNat 5 = 5 from rfl), s133_43, gT_wI, if_pos ta, e2, gc_v, wI_wI, q1]
        exact fin _ I2 rfl (by rw [show pSt E 5 x 0 s.1 = rw1 s.1 (35 + x) 1 from rfl, q2]; exact x2) f2 (fun _ => ⟨m, hm, ri.rw (Or.inr (Or.inl ⟨by omega, by omega, Or.inr rfl⟩))⟩)
    · have k0 : gI (wI h I1) t 0 = Int32.ofNat k := by rw [gI_wI, I1t]; exact j0
      have k1 : gI (wI h I1) t 1 = Int32.ofNat u := by rw [gI_wI, I1t]; exact j1
      have k2 : gI (wI h I1) t 2 = Int32.ofNat v := by rw [gI_wI, I1t]; exact j2
      rw [e0 (k9 := 137) (by rw [ht]; rfl), r137, s137_0, gT_wI, if_pos ht, k0, k1, k2, gR_wI, r0]
      have fin : ∀ (w0 w1 : Value) (B : Bool) (I2 : Nat → Nat → Int32), B = pStB E k x y s.1 → XC I2 a σ E (-1) (if pStB E k x y s.1 = true then pSt E k x y s.1 else s.1) → (∀ b, (b < a ∨ a + 8 < b) → I2 b = gI (wI h I1) b) → (pStB E k x y s.1 = true → RJ E (pSt E k x y s.1)) → ∃ I', gc gd_P0 (d + 1) 142 12 15 [.ref ν, .ref t] [] (go gd_P0 d 137 64 [w0, w1] [.int (if B = true then 1 else 0), .ref ν] (wI h I2)) = some (.inl none, wI h I') ∧ WT (wI h I') ν a σ E (pOne E k x y s) ∧ WF I I' ν a := by
        rintro w0 w1 B I2 rfl hx hI2 hr
        obtain ⟨I', e', w', f'⟩ := ac143 hw hb hx (mk hI2) hr (d := d) (by omega)
        exact ⟨I', by rw [s137_64, gT_wI, if_pos tν, e', gc_n, s137_67, gc_n, s142_15], w', f'⟩
      rcases hk with ⟨rfl, rfl, rfl⟩ | ⟨rfl, rfl, rfl⟩ | ⟨rfl, rfl, rfl⟩
      · have hx : u < eN E := by unfold POK at hp; omega
        obtain ⟨I2, e2, x2, f2⟩ := sp164 (d := d) (by omega) ss1 xc1 u (by omega) (Int32.ofNat v)
        obtain ⟨q1, q2⟩ := pStB_eq (r := s.1) (j := 7 + u) (v := Int32.ofNat v) (B := pStB E 1 u v s.1) rfl
        rw [if_pos (show Int32.ofNat 1 = 1 from rfl), if_pos tν, if_pos ht, if_pos ht, if_pos ta, e2, gc_v, s137_24, wI_wI, q1]
        exact fin _ _ _ I2 rfl (by rw [show pSt E 1 u v s.1 = rw1 s.1 (7 + u) (Int32.ofNat v) from rfl, q2]; exact x2) f2 (fun _ => ⟨m, hm, ri.rw (by omega)⟩)
      · have hx : v < 10 := by unfold POK at hp; omega
        have y0 : y = 0 := by unfold POK at hp; omega
        obtain ⟨I2, e2, x2, f2⟩ := sp165 (d := d) (by omega) ss1 xc1 (Int32.ofNat v)
        obtain ⟨q1, q2⟩ := pStB_eq (r := s.1) (j := 48) (v := Int32.ofNat v) (B := pStB E 2 v y s.1) rfl
        rw [if_neg (show ¬ Int32.ofNat 2 = 1 by decide), if_pos ht, if_pos (show Int32.ofNat 2 = 2 from rfl), if_pos tν, if_pos ht, if_pos ta, e2, gc_v, s137_46, wI_wI, q1]
        exact fin _ _ _ I2 rfl (by rw [show pSt E 2 v y s.1 = rw1 s.1 48 (Int32.ofNat v) from rfl, q2]; exact x2) f2 (fun _ => ⟨m, hm, ri.rw (Or.inr (Or.inr ⟨rfl, v, by omega, rfl⟩))⟩)
      · have hx : u < eB E ∧ 1 ≤ v ∧ v < 10 := by unfold POK at hp; omega
        obtain ⟨I2, e2, x2, f2⟩ := sp166 (d := d) (by omega) ss1 xc1 ri u (by omega) v (by omega) (by omega)
        have q : pStB E 3 u v s.1 = decide (Int32.ofNat v < s.1 (42 + u)) := rfl
        have q1 : (if Int32.ofNat v < s.1 (42 + u) then (1 : Int32) else 0) = (if pStB E 3 u v s.1 = true then 1 else 0) := by rw [q]; simp only [decide_eq_true_eq]
        have q2 : (if Int32.ofNat v < s.1 (42 + u) then pPl E s.1 u (Int32.ofNat v) else s.1) = (if pStB E 3 u v s.1 = true then pSt E 3 u v s.1 else s.1) := by rw [q]; simp only [decide_eq_true_eq]; rfl
        rw [if_neg (show ¬ Int32.ofNat 3 = 1 by decide), if_pos ht, if_neg (show ¬ Int32.ofNat 3 = 2 by decide), if_pos tν, if_pos ht, if_pos ht, if_pos ta, e2, gc_v, wI_wI, q1]
        exact fin _ _ _ I2 rfl (by rw [← q2]; exact x2) f2 (fun z => ⟨m, hm, ri.pl (by omega) (by omega) (by rw [q, decide_eq_true_eq] at z; exact z)⟩)
    · obtain ⟨I2, e2, x2, f2⟩ := sp151 (d := d) (by omega) ss1 xc1 ri (by omega) ei lw1.lf
      have q49 : (s.1 49 = 400) = (m = 400) := by rw [ri.2.2.1]; exact j_eq (n := 400) (by omega) (by omega)
      have q : (pStB E 6 0 0 s.1 = true) = (m < 400) := by
        show ((!decide (s.1 49 = 400)) = true) = _
        rw [Bool.not_eq_true', decide_eq_false_iff_not, q49]
        exact propext ⟨fun z => by omega, fun z => by omega⟩
      have q1 : (if m < 400 then (1 : Int32) else 0) = (if pStB E 6 0 0 s.1 = true then 1 else 0) := by simp only [q]
      have q2 : (if m < 400 then pMo E (-1) s.1 else s.1) = (if pStB E 6 0 0 s.1 = true then pSt E 6 0 0 s.1 else s.1) := by simp only [q]; rfl
      obtain ⟨I', e', w', f'⟩ := ac143 (k := 6) (x := 0) (y := 0) hw hb (by rw [← q2]; exact x2) (mk f2) (fun z => by rw [q] at z; exact ⟨m + 1, by omega, ri.mo ei (Or.inl rfl) (by omega)⟩) (d := d) (by omega)
      rw [← q1] at e'
      exact ⟨I', by rw [e0 (k9 := 139) (by rw [ht]; rfl), r139, s139_0, gT_wI, if_pos tν, gR_wI, r0, if_pos ta, e2, gc_v, s139_8, wI_wI, gT_wI, if_pos tν, e', gc_n, s139_11, gc_n, s142_15], w', f'⟩
    · have fr1 : WF I I1 ν a := fun b h1 _ => by rw [← eI, up1_nc _ _ _ h1]
      have hI1 := fr1.cg a12 hν hlo hI
      have w1 : WT (wI h I1) ν a σ E (itr (fun s => fo (fun i s => gu (Vi i) s) q s) 0 (s.1, s.2.1 + 1, s.2.2.1, s.2.2.2)) := by
        refine ⟨⟨tν, r0, hν1, νσ⟩, ⟨?_, ?_, ?_⟩, ⟨ss1, xc1, lw1⟩, ei, ⟨m, hm, ri⟩, by show s.2.1 + 1 ≤ 200; omega, by show s.2.2.1 + s.2.2.2 ≤ s.2.1 + 1; omega⟩
        · rw [gI_wI, ← eI, up1_eq]; rfl
        · rw [gI_wI, ← eI, up1_nj _ _ (by decide)]; exact i2
        · rw [gI_wI, ← eI, up1_nj _ _ (by decide)]; exact i3
      obtain ⟨I', e', w', f'⟩ := lpO (d := d) hν hlo ⟨a1, a2⟩ ht y3 y1 y4 y5 y7 y8 y2 (by omega) (fun i hi => sp142 hν hlo n _ _ (y9 i hi) d (by omega)) (s.1, s.2.1 + 1, s.2.2.1, s.2.2.2) tm 0 I1 0 (by omega) hI1 w1
      have e' : go gd_P0 d 131 2 [.ref t, .ref ν, .int 0, .null] [] (wI h I1) = _ := e'
      exact ⟨I', by rw [e0 (k9 := 131) (by rw [ht]; rfl), r131, s131_0, e', gc_n, s142_15], w', fr1.trans f'⟩

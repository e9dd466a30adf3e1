/-! ===== THE CALL work: the class, whole ===== -/
set_option maxRecDepth 100000
theorem lim150 {I16 : Int32} {f : Nat} (t1 : I16 = Int32.ofNat f) (t2 : f ≤ 600) : (if (150 : Int32) < I16 then (150 : Int32) else I16) = Int32.ofNat (min f 150) := by
  rw [t1]
  simp only [show (150 : Int32) = Int32.ofNat 150 from rfl, j_lt (show 150 < 2147483648 by omega) (show f < 2147483648 by omega)]
  by_cases c : 150 < f
  · rw [if_pos c, Nat.min_eq_right (by omega)]
  · rw [if_neg c, Nat.min_eq_left (by omega)]
theorem x57 {D : gdD} {n : Nat} (hn : n ≤ dFed D) (hn5 : n ≤ 150) : XDo 57 [.int (Int32.ofNat n)] D (WDo D n).1 (WDo D n).2 := by
  intro d h hd hi hD hS
  obtain ⟨d, rfl⟩ : ∃ e, d = e + 1 := ⟨d - 1, by omega⟩
  obtain ⟨hg, ⟨σ, ⟨s1, s2, s3⟩, s4, s5, s6, s7⟩, ⟨w1, w2⟩, -, ⟨t1, t2, t3⟩, -, -, -, -, -, sz⟩ := id hi
  have hX := txt_o hD hn t2
  have T96 : gT h 96 = 1 := hg.1
  have R2 : gR h 96 2 = 99 := x_r2 hg
  have T99 : gT h 99 = 3 := x_t2 hg
  have em := lim150 t1 t2
  have mn : n ≤ min (dFed D) 150 := by omega
  have mx : min (dFed D) 150 ≤ 150 := by omega
  generalize min (dFed D) 150 = m at em mn mx
  have e53 := sp53 hg (d := d) (by omega) (v := Int32.ofNat n) (lo := 0) (hi := Int32.ofNat m) (by rw [j_neg (by omega)]; exact fun z => z) (by rw [j_lt (by omega) (by omega)]; omega)
  have E0 : run gd_P0 (d + 1) 57 [.ref 96, .int (Int32.ofNat n)] h = go gd_P0 d 57 16 [.ref 96, .int (Int32.ofNat n), .null, .null, .null] [] h := by
    rw [r57, s57_0, if_pos T96, em, s57_13, if_pos T96, e53, gc_n]
  have q16 : (gI h 99 1 = 16) = (dW D = 16) := by rw [w1]; exact j_eq (n := 16) (by omega) (by omega)
  rw [E0, s57_16, if_pos T96, R2, if_pos T99]
  unfold WDo
  by_cases c16 : dW D = 16
  · rw [if_pos c16, if_pos (show gI h 99 1 = 16 by rw [q16]; exact c16), if_pos T96, if_pos T96]
    have kx : Kx 0 h (wI h (up1 (up1 (gI h) 96 16 0) 96 17 (-1))) := ⟨⟨Nat.le_refl _, Nat.le_refl _, Nat.le_refl _⟩, fun b hb => ⟨rfl, rfl, rfl, fun z => by rw [gI_wI, up1_nc _ _ _ z, up1_nc _ _ _ z]⟩, fun j j1 j2 => by rw [gI_wI, up1_nj _ _ j2, up1_nj _ _ j1]⟩
    have xi := hi.kx kx (by rw [gI_wI, up1_nj _ _ (by omega), up1_eq])
    rw [gI_wI, up1_eq] at xi
    exact ⟨_, rfl, xi, kx.fx sz (by omega)⟩
  have w16 : dW D < 16 := by omega
  rw [if_neg c16, if_neg (show ¬ gI h 99 1 = 16 by rw [q16]; exact c16)]
  -- the reader
  have kn := Ke.nw h 16 0 3 (by omega)
  obtain ⟨h2, e54, kx, S2, ⟨f16, f17⟩, hb, oT⟩ := sp54 hi hD kn hn (d := d) (by omega)
  rw [gS_nw] at S2 hb oT e54
  have tl : gT h2 (gS h) = 16 := by rw [(oT (gS h) (by omega)).1, gT_nw, if_pos rfl]
  have hS2 : SK h2 := hS.cg fun b hb => by
    obtain ⟨x1, x2, x3, x4⟩ := kx.2.1 b (by omega)
    exact ⟨x1, x2, x4 (by omega)⟩
  obtain ⟨R'', e123, r1', r2', r3', r5', r4'⟩ := sp123 (H := rz h2 (gS h + 1) 0 0) (hS2.rz (by omega) 0 0) (by rw [gS_rz]; omega) tl (by omega) (by rw [gS_rz]; omega) (gS h + 1) σ (d := d) (by omega)
  rw [gS_rz] at r1' r2' r4'
  generalize eh3 : wR (nw h2 38 8 8) R'' = h3
  have e3 : wR (nw (rz h2 (gS h + 1) 0 0) 38 8 8) R'' = rz h3 (gS h + 1) 0 0 := by rw [nw_rz h2 _ _ _ _ _ (by omega), rz_wR, eh3]
  have S3 : gS h3 = gS h2 + 1 := by rw [← eh3]; rfl
  have U3 : gU h3 = gU h2 + 8 := by rw [← eh3]; rfl
  have o3 : ∀ b, b < gS h2 → gT h3 b = gT h2 b ∧ gL h3 b = gL h2 b ∧ gI h3 b = gI h2 b ∧ (b ≠ gS h → gR h3 b = gR h2 b) := by
    intro b hb
    have z : b ≠ gS h2 := by omega
    rw [← eh3]
    exact ⟨by show gT (nw h2 38 8 8) b = _; rw [gT_nw, if_neg z], by show gL (nw h2 38 8 8) b = _; rw [gL_nw, if_neg z], by show gI (nw h2 38 8 8) b = _; funext j; rw [gI_nw, if_neg z], fun z2 => r1' b z z2⟩
  have kx3 : Kx 3 h h3 := by
    refine ⟨⟨by omega, by omega, by have := kx.1.2.2; omega⟩, fun b hb => ?_, fun j j1 j2 => ?_⟩
    · obtain ⟨x1, x2, x3, x4⟩ := kx.2.1 b hb
      obtain ⟨y1, y2, y3, y4⟩ := o3 b (by omega)
      exact ⟨y1.trans x1, y2.trans x2, (y4 (by omega)).trans x3, fun z => y3.trans (x4 z)⟩
    · rw [(o3 96 (by omega)).2.2.1]; exact kx.2.2 j j1 j2
  have g16 : gI h3 96 16 = 0 := by rw [(o3 96 (by omega)).2.2.1]; exact f16
  have g17 : gI h3 96 17 = -1 := by rw [(o3 96 (by omega)).2.2.1]; exact f17
  have hb3 : RB h3 (gS h + 1) (txt D n) := by
    obtain ⟨⟨b1, b2, b3, b4⟩, b5, b6, ⟨b7, b8⟩, b9⟩ := hb
    obtain ⟨y1, y2, y3, y4⟩ := o3 (gS h + 1) (by omega)
    obtain ⟨z1, z2, z3, z4⟩ := o3 97 (by omega)
    exact ⟨⟨y1.trans b1, by rw [y4 (by omega)]; exact b2, z1.trans b3, z2.trans b4⟩, by rw [y3]; exact b5, by rw [z3]; exact b6, ⟨b7, by omega⟩, b9⟩
  have hS3 : SK h3 := hS2.cg fun b hb => by
    obtain ⟨x1, x2, x3, x4⟩ := o3 b (by omega)
    exact ⟨x1, x2, x3⟩
  have xc0 := (s6 0 (Nat.zero_le _)).2
  have hk3 : WK h3 (gS h) (gS h + 1) (gS h2) σ (dE D) := by
    obtain ⟨y1, y2, y3, y4⟩ := kx3.2.1 σ (by omega)
    refine ⟨⟨(o3 (gS h) (by omega)).1.trans tl, ?_, ?_, ?_⟩, ⟨?_, ?_, fun i hi => ?_⟩, ⟨y1.trans s4.2.1, ?_, ?_⟩, ⟨by omega, by omega, by omega, by omega, by omega⟩, xc0.1⟩
    · rw [← eh3]; exact r2'
    · rw [← eh3]; exact r3'
    · rw [← eh3]; exact r5'
    · rw [← eh3]; show gT (nw h2 38 8 8) _ = _; rw [gT_nw, if_pos rfl]
    · rw [← eh3]; show gL (nw h2 38 8 8) _ = _; rw [gL_nw, if_pos rfl]
    · rw [← eh3]; exact r4' i hi
    · rw [y4 (by omega)]; exact xc0.2.1.1
    · rw [y4 (by omega)]; exact xc0.2.1.2
  have out := sp124 (X := txt D n) (by show n ≤ 150; omega) hb3 hS3 hk3 (d := d) (by omega)
  have tn : gT (nw h 16 0 3) 96 = 1 := by rw [gT_nw, if_neg (by omega)]; exact T96
  have t96z : gT (rz h2 (gS h + 1) 0 0) 96 = 1 := (kx.2.1 96 (by omega)).1.trans T96
  have r96z : gR (rz h2 (gS h + 1) 0 0) 96 15 = σ := by rw [gR_rz, (kx.2.1 96 (by omega)).2.2.1]; exact s1
  have tz : gT (rz h2 (gS h + 1) 0 0) (gS h) = 16 := tl
  have tz3 : gT (rz h3 (gS h + 1) 0 0) (gS h) = 16 := (o3 (gS h) (by omega)).1.trans tl
  rw [if_pos tn, e54, gc_v, s57_52, if_pos t96z, if_pos tz, r96z, e123, gc_n, e3, s57_59, if_pos tz3]
  revert out
  rcases wWork (txt D n) (dE D) with ⟨k, pl⟩ | ⟨p, b⟩
  · rintro ⟨a, h4, e, w⟩
    obtain ⟨kx4, e96⟩ := kx3.kr w.2 (by omega) (by omega) (Nat.le_refl _)
    obtain ⟨h5, e5, x5, f5, t5⟩ := flt hi kx4 (by omega) (by rw [e96]; exact g16) w.1.2.1 w.1.2.2.1 w.1.2.2.2 (d := d) (by omega)
    have t96 : gT h4 96 = 1 := (kx4.2.1 96 (by omega)).1.trans T96
    refine ⟨h5, ?_, x5, f5⟩
    rw [e, gc_x, gx_c (hp := 66) (e := by rw [w.1.2.1]; rfl), s57_66, if_pos t96, e5, gc_v, s57_72]
    rfl
  · rintro ⟨h4, e, z, ⟨p0, pn⟩, -⟩
    have pn : p ≤ n := pn
    obtain ⟨kx4, e96⟩ := kx3.ke z.ke (by omega) (Nat.le_refl _)
    obtain ⟨F, eF, xF, fF⟩ := x57e (ρ := gS h + 1) hi hD w16 s1 kx4 (by omega) (by rw [e96]; exact g16) (by rw [e96]; exact g17) (by omega) (by omega) rfl (by omega) z (by omega) (d := d) (by omega)
    refine ⟨F, ?_, xF, fF⟩
    rw [e, gc_v]
    exact eF
theorem x57n {D : gdD} {v : Int32} (hf : dFed D ≤ 600) (hv : v < 0 ∨ Int32.ofNat (min (dFed D) 150) < v) : XNo 57 [.int v] D 25 := by
  intro d h hd hi hD
  obtain ⟨d, rfl⟩ : ∃ e, d = e + 1 := ⟨d - 1, by omega⟩
  obtain ⟨hg, -, -, -, ⟨t1, t2, t3⟩, -, -, -, -, -, sz⟩ := id hi
  rw [r57, s57_0, if_pos hg.1, lim150 t1 t2, s57_13, if_pos hg.1, sp53n hg (by omega) (by omega) hv, gc_x]
  exact gx_n (k := 57) (pc := 13) (t := 25) rfl

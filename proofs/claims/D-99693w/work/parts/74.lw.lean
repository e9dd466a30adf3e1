/-! ===== THE CALL law ===== -/
set_option maxRecDepth 100000
theorem wg {H : gd_H} (hs : SK H) (hz : 96 ≤ gS H) (n : Nat) {j i : Nat} (hj : j < 40) (hi : i < n) (hn : n < 100) : gT (nw H 38 n n) (gS H) = 38 ∧ ((gT (nw H 38 n n) (8 + 2 * j) = 23 ∧ 8 + 2 * j < 96) ∧ ¬ (Int32.ofNat i < 0 ∨ gL (nw H 38 n n) (gS H) ≤ Int32.toNatClampNeg (Int32.ofNat i))) := by
  refine ⟨by rw [gT_nw, if_pos rfl], ⟨by rw [gT_nw, if_neg (by omega)]; exact (hs j hj).1.1, by omega⟩, ?_⟩
  rw [gL_nw, if_pos rfl, j_ix (by omega) hi]
  exact trivial
/-- the law's reader is made -/
theorem sp112 {H : gd_H} (hs : SK H) (hz : 96 ≤ gS H) {lm : Nat} (ht : gT H lm = 12) (hl : 96 ≤ lm) (hl2 : lm < gS H) (ρ : Nat) {d : Nat} (hd : 1 ≤ d) : ∃ R', run gd_P0 d 112 [.ref lm, .ref ρ] H = some (.inl none, wR (nw H 38 8 8) R') ∧ (∀ b, b ≠ gS H → b ≠ lm → R' b = gR H b) ∧ (R' lm 0 = gS H ∧ R' lm 1 = ρ ∧ ∀ i, i < 8 → R' (gS H) i = 8 + 2 * (4 + i)) := by
  obtain ⟨d, rfl⟩ : ∃ e, d = e + 1 := ⟨d - 1, by omega⟩
  have z : lm ≠ gS H := by omega
  have z2 : gS H ≠ lm := by omega
  have g0 : gT (nw H 38 8 8) (gS H) = 38 ∧ ((gT (nw H 38 8 8) 16 = 23 ∧ 16 < 96) ∧ ¬ ((0 : Int32) < 0 ∨ gL (nw H 38 8 8) (gS H) ≤ Int32.toNatClampNeg (0 : Int32))) := wg hs hz 8 (j := 4) (i := 0) (by omega) (by omega) (by omega)
  have g1 : gT (nw H 38 8 8) (gS H) = 38 ∧ ((gT (nw H 38 8 8) 18 = 23 ∧ 18 < 96) ∧ ¬ ((1 : Int32) < 0 ∨ gL (nw H 38 8 8) (gS H) ≤ Int32.toNatClampNeg (1 : Int32))) := wg hs hz 8 (j := 5) (i := 1) (by omega) (by omega) (by omega)
  have g2 : gT (nw H 38 8 8) (gS H) = 38 ∧ ((gT (nw H 38 8 8) 20 = 23 ∧ 20 < 96) ∧ ¬ ((2 : Int32) < 0 ∨ gL (nw H 38 8 8) (gS H) ≤ Int32.toNatClampNeg (2 : Int32))) := wg hs hz 8 (j := 6) (i := 2) (by omega) (by omega) (by omega)
  have g3 : gT (nw H 38 8 8) (gS H) = 38 ∧ ((gT (nw H 38 8 8) 22 = 23 ∧ 22 < 96) ∧ ¬ ((3 : Int32) < 0 ∨ gL (nw H 38 8 8) (gS H) ≤ Int32.toNatClampNeg (3 : Int32))) := wg hs hz 8 (j := 7) (i := 3) (by omega) (by omega) (by omega)
  have g4 : gT (nw H 38 8 8) (gS H) = 38 ∧ ((gT (nw H 38 8 8) 24 = 23 ∧ 24 < 96) ∧ ¬ ((4 : Int32) < 0 ∨ gL (nw H 38 8 8) (gS H) ≤ Int32.toNatClampNeg (4 : Int32))) := wg hs hz 8 (j := 8) (i := 4) (by omega) (by omega) (by omega)
  have g5 : gT (nw H 38 8 8) (gS H) = 38 ∧ ((gT (nw H 38 8 8) 26 = 23 ∧ 26 < 96) ∧ ¬ ((5 : Int32) < 0 ∨ gL (nw H 38 8 8) (gS H) ≤ Int32.toNatClampNeg (5 : Int32))) := wg hs hz 8 (j := 9) (i := 5) (by omega) (by omega) (by omega)
  have g6 : gT (nw H 38 8 8) (gS H) = 38 ∧ ((gT (nw H 38 8 8) 28 = 23 ∧ 28 < 96) ∧ ¬ ((6 : Int32) < 0 ∨ gL (nw H 38 8 8) (gS H) ≤ Int32.toNatClampNeg (6 : Int32))) := wg hs hz 8 (j := 10) (i := 6) (by omega) (by omega) (by omega)
  have g7 : gT (nw H 38 8 8) (gS H) = 38 ∧ ((gT (nw H 38 8 8) 30 = 23 ∧ 30 < 96) ∧ ¬ ((7 : Int32) < 0 ∨ gL (nw H 38 8 8) (gS H) ≤ Int32.toNatClampNeg (7 : Int32))) := wg hs hz 8 (j := 11) (i := 7) (by omega) (by omega) (by omega)
  have gl : gT (nw H 38 8 8) lm = 12 := by rw [gT_nw, if_neg z]; exact ht
  refine ⟨?zw, ?za, ?zb⟩
  case za => rw [r112, s112_0, if_pos (by omega), s112_4, show Int32.toNatClampNeg 8 = 8 from rfl, if_pos g0, if_pos g1, if_pos g2, if_pos g3, if_pos g4, if_pos g5, if_pos g6, if_pos g7, if_pos gl, if_pos gl]
  refine ⟨fun b b1 b2 => ?_, ?_, ?_, fun i hi => ?_⟩
  · rw [up1_nc _ _ _ b2, up1_nc _ _ _ b2, up1_nc _ _ _ b1, up1_nc _ _ _ b1, up1_nc _ _ _ b1, up1_nc _ _ _ b1, up1_nc _ _ _ b1, up1_nc _ _ _ b1, up1_nc _ _ _ b1, up1_nc _ _ _ b1]
    funext j
    rw [gR_nw, if_neg b1]
  · rw [up1_nj _ _ (by omega), up1_eq]
  · rw [up1_eq]
  · rw [up1_nc _ _ _ z2, up1_nc _ _ _ z2]
    have : i = 0 ∨ i = 1 ∨ i = 2 ∨ i = 3 ∨ i = 4 ∨ i = 5 ∨ i = 6 ∨ i = 7 := by omega
    rcases this with rfl | rfl | rfl | rfl | rfl | rfl | rfl | rfl
    all_goals simp [up1]
    all_goals decide
/-- the law is another -/
def dV (D : gdD) (V : gdV) : gdD := ((D.1.1, D.1.2.1, D.1.2.2.1, D.1.2.2.2.1, D.1.2.2.2.2.1, D.1.2.2.2.2.2.1, V), D.2)
theorem XI.lawR {h : gd_H} {D : gdD} {V : gdV} {t : Nat} (hi : XI h D) (hl : LWx (wR h (up1 (gR h) 98 0 t)) V) : XI (wR h (up1 (gR h) 98 0 t)) (dV D V) := by
  obtain ⟨hg, ⟨σ, ⟨s1, s2, s3⟩, s4, s5, s6, s7⟩, w, ⟨i1, i2, i3⟩, tp, fa, b, rs, r, lw, sz⟩ := hi
  have hR : ∀ q, q ≠ 98 → gR (wR h (up1 (gR h) 98 0 t)) q = gR h q := fun q hq => up1_nc _ _ _ hq
  refine ⟨hg.al fun q hq => ⟨rfl, rfl, fun z => hR q z⟩, ⟨σ, ⟨by rw [hR 96 (by omega)]; exact s1, s2, s3⟩, s4.cg (fun _ _ _ => ⟨rfl, rfl⟩) (fun j => by rw [hR σ (by omega)]), s5, fun k hk => ⟨by rw [hR _ (by omega)]; exact (s6 k hk).1, (s6 k hk).2⟩, fun i hi k hk => ⟨by rw [hR _ (by omega)]; exact (s7 i hi k hk).1, (s7 i hi k hk).2⟩⟩, w, ⟨i1, i2, i3⟩, tp, fa, b, rs, r, hl, sz⟩
theorem DI.v {D : gdD} {V : gdV} (hD : DI D) (hV : ∀ f g : Nat → Int32, (∀ j, j < 8 → f j = g j) → V f = V g) : DI (dV D V) := ⟨⟨hD.1.1, hD.1.2.1, hV⟩, hD.2.1, hD.2.2.1, hD.2.2.2⟩
theorem sp55 {h : gd_H} {a k pl : Nat} (t96 : gT h 96 = 1) (ta : gT h a = 11) (i6 : gI h a 6 = Int32.ofNat k) (i7 : gI h a 7 = Int32.ofNat pl) {d : Nat} (hd : 1 ≤ d) : run gd_P0 d 55 [.ref 96, .ref a] h = some (.inl (some (.int (Int32.ofNat k - 10))), wI h (up1 (gI h) 96 17 (Int32.ofNat pl))) := by
  obtain ⟨d, rfl⟩ : ∃ e, d = e + 1 := ⟨d - 1, by omega⟩
  have z : a ≠ 96 := fun e => by rw [e, t96] at ta; cases ta
  rw [r55, s55_0, if_pos ta, if_pos t96, if_pos ta, i7, up1_nc _ _ _ z, i6]
/-- after a fault was caught: the door as it was, the fault's place -/
theorem flt {c : Nat} {h h3 : gd_H} {D : gdD} {a k pl : Nat} (hi : XI h D) (kx : Kx c h h3) (hc : c ≤ 2000) (f0 : gI h3 96 16 = 0) (ta : gT h3 a = 11) (i6 : gI h3 a 6 = Int32.ofNat k) (i7 : gI h3 a 7 = Int32.ofNat pl) {d : Nat} (hd : 1 ≤ d) : ∃ h4, run gd_P0 d 55 [.ref 96, .ref a] h3 = some (.inl (some (.int (Int32.ofNat k - 10))), h4) ∧ XI h4 (dF0 D (Int32.ofNat pl)) ∧ FX h h4 ∧ gT h4 96 = 1 := by
  have sz : 1264 < gS h := hi.2.2.2.2.2.2.2.2.2.2
  have t96 : gT h3 96 = 1 := (kx.2.1 96 (by omega)).1.trans hi.1.1
  refine ⟨_, sp55 t96 ta i6 i7 hd, ?_, ?_, t96⟩
  · have k2 : Kx c h (wI h3 (up1 (gI h3) 96 17 (Int32.ofNat pl))) := ⟨kx.1, fun b hb => ⟨(kx.2.1 b hb).1, (kx.2.1 b hb).2.1, (kx.2.1 b hb).2.2.1, fun z => (up1_nc _ _ _ z).trans ((kx.2.1 b hb).2.2.2 z)⟩, fun j j1 j2 => (up1_nj _ _ j2).trans (kx.2.2 j j1 j2)⟩
    have e := hi.kx k2 (by rw [gI_wI, up1_nj _ _ (by omega)]; exact f0)
    rw [gI_wI, up1_eq] at e
    exact e
  · have k2 : Kx c h (wI h3 (up1 (gI h3) 96 17 (Int32.ofNat pl))) := ⟨kx.1, fun b hb => ⟨(kx.2.1 b hb).1, (kx.2.1 b hb).2.1, (kx.2.1 b hb).2.2.1, fun z => (up1_nc _ _ _ z).trans ((kx.2.1 b hb).2.2.2 z)⟩, fun j j1 j2 => (up1_nj _ _ j2).trans (kx.2.2 j j1 j2)⟩
    exact k2.fx sz hc
def LD (D : gdD) : gdQ gdK → Value × gdD
  | .inl (k, pl) => (.int (Int32.ofNat k - 10), dF0 D (Int32.ofNat pl))
  | .inr (_, a) => (.int 1, dV (dF0 D (-1)) a.2)
theorem x56 {D : gdD} {n : Nat} (hn : n ≤ dFed D) (hn5 : n ≤ 150) : XDo 56 [.int (Int32.ofNat n)] D (LD D (lLaw (txt D n))).1 (LD D (lLaw (txt D n))).2 := by
  intro d h hd hi hD hS
  obtain ⟨d, rfl⟩ : ∃ e, d = e + 1 := ⟨d - 1, by omega⟩
  obtain ⟨hg, -, -, -, ⟨t1, t2, t3⟩, -, -, -, -, -, sz⟩ := id hi
  have hX := txt_o hD hn t2
  have T96 : gT h 96 = 1 := hg.1
  have R1 : gR h 96 1 = 98 := x_r1 hg
  have T98 : gT h 98 = 2 := x_t1 hg
  -- the reader
  have kn := Ke.nw h 12 0 2 (by omega)
  obtain ⟨h2, e54, kx, S2, ⟨f16, f17⟩, hb, oT⟩ := sp54 hi hD kn hn (d := d) (by omega)
  rw [gS_nw] at S2 hb oT e54
  -- the law's reader
  have tl : gT h2 (gS h) = 12 := by rw [(oT (gS h) (by omega)).1, gT_nw, if_pos rfl]
  have hS2 : SK h2 := hS.cg fun b hb => by
    obtain ⟨x1, x2, x3, x4⟩ := kx.2.1 b (by omega)
    exact ⟨x1, x2, x4 (by omega)⟩
  obtain ⟨R', e112, r1, r2, r3, r4⟩ := sp112 (H := h2) hS2 (by omega) tl (by omega) (by omega) (gS h + 1) (d := d) (by omega)
  have hrz : rz h2 (gS h + 1) 0 0 = rz h2 (gS h + 1) 0 0 := rfl
  -- under the reader's place
  obtain ⟨R'', e112', r1', r2', r3', r4'⟩ := sp112 (H := rz h2 (gS h + 1) 0 0) (hS2.rz (by omega) 0 0) (by rw [gS_rz]; omega) tl (by omega) (by rw [gS_rz]; omega) (gS h + 1) (d := d) (by omega)
  rw [gS_rz] at r1' r2' r4'
  generalize eh3 : wR (nw h2 38 8 8) R'' = h3
  have e3 : wR (nw (rz h2 (gS h + 1) 0 0) 38 8 8) R'' = rz h3 (gS h + 1) 0 0 := by rw [nw_rz h2 _ _ _ _ _ (by omega), rz_wR, eh3]
  have S3 : gS h3 = gS h2 + 1 := by rw [← eh3]; rfl
  have U3 : gU h3 = gU h2 + 8 := by rw [← eh3]; rfl
  have o3 : ∀ b, b < gS h2 → gT h3 b = gT h2 b ∧ gL h3 b = gL h2 b ∧ gI h3 b = gI h2 b ∧ (b ≠ gS h → gR h3 b = gR h2 b) := by
    intro b hb
    have z : b ≠ gS h2 := by omega
    rw [← eh3]
    exact ⟨by show gT (nw h2 38 8 8) b = _; rw [gT_nw, if_neg z], by show gL (nw h2 38 8 8) b = _; rw [gL_nw, if_neg z], by show gI (nw h2 38 8 8) b = _; funext j; rw [gI_nw, if_neg z], fun z2 => r1' b z z2⟩
  have kx3 : Kx 3 h h3 := by
    refine ⟨⟨by omega, by omega, by have := kx.1.2.2; omega⟩, fun b hb => ?_, fun j j1 j2 => ?_⟩
    · obtain ⟨x1, x2, x3, x4⟩ := kx.2.1 b hb
      obtain ⟨y1, y2, y3, y4⟩ := o3 b (by omega)
      exact ⟨y1.trans x1, y2.trans x2, (y4 (by omega)).trans x3, fun z => y3.trans (x4 z)⟩
    · rw [(o3 96 (by omega)).2.2.1]; exact kx.2.2 j j1 j2
  have g16 : gI h3 96 16 = 0 := by rw [(o3 96 (by omega)).2.2.1]; exact f16
  have g17 : gI h3 96 17 = -1 := by rw [(o3 96 (by omega)).2.2.1]; exact f17
  have hb3 : RB h3 (gS h + 1) (txt D n) := by
    obtain ⟨⟨b1, b2, b3, b4⟩, b5, b6, ⟨b7, b8⟩, b9⟩ := hb
    obtain ⟨y1, y2, y3, y4⟩ := o3 (gS h + 1) (by omega)
    obtain ⟨z1, z2, z3, z4⟩ := o3 97 (by omega)
    exact ⟨⟨y1.trans b1, by rw [y4 (by omega)]; exact b2, z1.trans b3, z2.trans b4⟩, by rw [y3]; exact b5, by rw [z3]; exact b6, ⟨b7, by omega⟩, b9⟩
  have hS3 : SK h3 := hS2.cg fun b hb => by
    obtain ⟨x1, x2, x3, x4⟩ := o3 b (by omega)
    exact ⟨x1, x2, x3⟩
  have hl3 : LB h3 (gS h) (gS h + 1) (gS h2) := by
    refine ⟨⟨(o3 (gS h) (by omega)).1.trans tl, ?_, ?_⟩, ⟨?_, ?_, fun i hi => ?_⟩, by omega, by omega, by omega⟩
    · rw [← eh3]; exact r3'
    · rw [← eh3]; exact r2'
    · rw [← eh3]; show gT (nw h2 38 8 8) _ = _; rw [gT_nw, if_pos rfl]
    · rw [← eh3]; show gL (nw h2 38 8 8) _ = _; rw [gL_nw, if_pos rfl]
    · rw [← eh3]; exact r4' i hi
  have out := sp113 (txt D n) (d := d) (by omega) hb3 hS3 hl3
  have E : run gd_P0 (d + 1) 56 [.ref 96, .int (Int32.ofNat n)] h = gc gd_P0 d 56 32 35 [.ref 96, .null, .null] [.ref 98] (run gd_P0 d 113 [.ref (gS h)] (rz h3 (gS h + 1) 0 0)) := by
    have lim : ∃ m : Nat, (if (150 : Int32) < gI h 96 16 then (150 : Int32) else gI h 96 16) = Int32.ofNat m ∧ n ≤ m ∧ m ≤ 600 := by
      rw [t1]
      by_cases c : (150 : Int32) < Int32.ofNat (dFed D)
      · exact ⟨150, if_pos c, hn5, by omega⟩
      · exact ⟨dFed D, if_neg c, hn, t2⟩
    obtain ⟨m, em, m1, m2⟩ := lim
    have e53 := sp53 hg (d := d) (by omega) (v := Int32.ofNat n) (lo := 0) (hi := Int32.ofNat m) (by rw [j_neg (by omega)]; exact fun z => z) (by rw [j_lt (by omega) (by omega)]; omega)
    have tn : gT (nw h 12 0 2) 96 = 1 := by rw [gT_nw, if_neg (by omega)]; exact T96
    have tz : gT (rz h2 (gS h + 1) 0 0) (gS h) = 12 := tl
    have tz3 : gT (rz h3 (gS h + 1) 0 0) (gS h) = 12 := (o3 (gS h) (by omega)).1.trans tl
    rw [r56, s56_0, if_pos T96, em, s56_13, if_pos T96, e53, gc_n, s56_16, if_pos T96, if_pos tn, R1, e54, gc_v, s56_29, if_pos tz, e112', gc_n, e3, s56_32, if_pos tz3]
  have hp := lLaw_g (txt D n)
  rw [E]
  revert out hp
  rcases lLaw (txt D n) with ⟨k, pl⟩ | ⟨p, a⟩
  · rintro ⟨a, h4, e, w⟩ -
    obtain ⟨kx4, e96⟩ := kx3.kr w.2 (by omega) (by omega) (Nat.le_refl _)
    obtain ⟨h5, e5, x5, f5, t5⟩ := flt hi kx4 (by omega) (by rw [e96]; exact g16) w.1.2.1 w.1.2.2.1 w.1.2.2.2 (d := d) (by omega)
    have t96 : gT h4 96 = 1 := (kx4.2.1 96 (by omega)).1.trans T96
    refine ⟨h5, ?_, x5, f5⟩
    rw [e, gc_x, gx_c (hp := 41) (e := by rw [w.1.2.1]; rfl), s56_41, if_pos t96, e5, gc_v, s56_47]
    rfl
  · rintro ⟨h4, t, e, k4, w⟩ ⟨-, hp, -⟩
    have hp : p ≤ n := hp
    obtain ⟨kx4, e96⟩ := kx3.ke k4 (by omega) (Nat.le_refl _)
    -- the heap under the reader's place
    have kx5 : Kx (3 + (p - 0)) h (rz h4 (gS h + 1) p 0) := ⟨kx4.1, fun b hb => ⟨(kx4.2.1 b hb).1, (kx4.2.1 b hb).2.1, (kx4.2.1 b hb).2.2.1, fun z => (rz_b _ _ _ _ (by omega)).trans ((kx4.2.1 b hb).2.2.2 z)⟩, fun j j1 j2 => by rw [rz_b _ _ _ _ (by omega)]; exact kx4.2.2 j j1 j2⟩
    have i96 : gI (rz h4 (gS h + 1) p 0) 96 = gI h3 96 := (rz_b _ _ _ _ (by omega)).trans e96
    have xi := hi.kx kx5 (by rw [i96]; exact g16)
    rw [i96, g17] at xi
    have t98 : gT (rz h4 (gS h + 1) p 0) 98 = 2 := (kx5.2.1 98 (by omega)).1.trans T98
    refine ⟨wR (rz h4 (gS h + 1) p 0) (up1 (gR (rz h4 (gS h + 1) p 0)) 98 0 t), ?_, ?_, ?_⟩
    · rw [e, gc_v, s56_35, if_pos t98]
      rfl
    · refine xi.lawR ⟨t98, Or.inr ⟨p - 0, by omega, ?_⟩⟩
      have e0 : gR (wR (rz h4 (gS h + 1) p 0) (up1 (gR (rz h4 (gS h + 1) p 0)) 98 0 t)) 98 0 = t := by rw [gR_wR, up1_eq]
      rw [e0]
      have w2 : TW (wR (rz h4 (gS h + 1) p 0) (up1 (gR (rz h4 (gS h + 1) p 0)) 98 0 t)) (gS h3) (gS h4) (p - 0) t a.2 := by
        refine TW_cg (h := h4) (h' := wR (rz h4 (gS h + 1) p 0) (up1 (gR (rz h4 (gS h + 1) p 0)) 98 0 t)) (lo := gS h3) (hi := gS h4) (Nat.le_refl _) (Nat.le_refl _) (fun b b1 b2 => ⟨rfl, ?_, ?_⟩) (p - 0) (p - 0) t a.2 (Nat.le_refl _) w
        · exact rz_b h4 _ _ _ (by omega)
        · show up1 (gR h4) 98 0 t b = gR h4 b
          exact up1_nc _ _ _ (by omega)
      exact TW_TV (by omega) (Nat.le_refl _) _ _ _ w2
    · have f := kx5.fx sz (by omega)
      exact ⟨f.1, fun b hb => ⟨(f.2 b hb).1, (f.2 b hb).2.1, (f.2 b hb).2.2.1, (up1_nc _ _ _ (by omega)).trans (f.2 b hb).2.2.2⟩⟩
theorem x56n {D : gdD} {v : Int32} (hf : dFed D ≤ 600) (hv : v < 0 ∨ Int32.ofNat (min (dFed D) 150) < v) : XNo 56 [.int v] D 25 := by
  intro d h hd hi hD
  obtain ⟨d, rfl⟩ : ∃ e, d = e + 1 := ⟨d - 1, by omega⟩
  obtain ⟨hg, -, -, -, ⟨t1, t2, t3⟩, -, -, -, -, -, sz⟩ := id hi
  have em : (if (150 : Int32) < gI h 96 16 then (150 : Int32) else gI h 96 16) = Int32.ofNat (min (dFed D) 150) := by
    rw [t1]
    simp only [show (150 : Int32) = Int32.ofNat 150 from rfl, j_lt (show 150 < 2147483648 by omega) (show dFed D < 2147483648 by omega)]
    by_cases c : 150 < dFed D
    · rw [if_pos c, Nat.min_eq_right (by omega)]
    · rw [if_neg c, Nat.min_eq_left (by omega)]
  rw [r56, s56_0, if_pos hg.1, em, s56_13, if_pos hg.1, sp53n hg (by omega) (by omega) hv, gc_x]
  exact gx_n (k := 56) (pc := 13) (t := 25) rfl
/-! the model -/
theorem mm_self {h : gd_H} {p o : Nat} (h4 : gI h 1231 4 = Int32.ofNat p) (h7 : gI h 1231 7 = Int32.ofNat o) : mm h p o = h := by
  unfold mm
  have : up1 (up1 (gI h) 1231 4 (Int32.ofNat p)) 1231 7 (Int32.ofNat o) = gI h := by
    funext b j
    simp only [up1]
    by_cases z : b = 1231 ∧ j = 7
    · rw [if_pos z, z.1, z.2, h7]
    · rw [if_neg z]
      by_cases z2 : b = 1231 ∧ j = 4
      · rw [if_pos z2, z2.1, z2.2, h4]
      · rw [if_neg z2]
  rw [this, wI_self]
/-- a reading begun -/
def bgn (h : gd_H) (n : Nat) : gd_H := wI h (up1 (up1 (up1 (up1 (up1 (up1 (up1 (gI h) 1231 0 0) 1231 2 0) 1231 8 (-1)) 1231 3 (Int32.ofNat n)) 1231 4 0) 1231 5 (-1)) 1231 7 0)
theorem sp184 {h : gd_H} (hm : MS h) (n : Nat) {d : Nat} (hd : 1 ≤ d) : run gd_P0 d 184 [.ref 1231, .int (Int32.ofNat n)] (wI h (up1 (gI h) 1231 0 0)) = some (.inl none, bgn h n) := by
  obtain ⟨d, rfl⟩ : ∃ e, d = e + 1 := ⟨d - 1, by omega⟩
  rw [r184, s184_0]
  simp only [gT_wI, hm.t, ↓reduceIte]
  rfl
theorem bgn_b (h : gd_H) (n : Nat) {b : Nat} (hb : b ≠ 1231) : gI (bgn h n) b = gI h b := by
  unfold bgn
  rw [gI_wI, up1_nc _ _ _ hb, up1_nc _ _ _ hb, up1_nc _ _ _ hb, up1_nc _ _ _ hb, up1_nc _ _ _ hb, up1_nc _ _ _ hb, up1_nc _ _ _ hb]
theorem bgn_j (h : gd_H) (n : Nat) {j : Nat} (hj : j = 20 ∨ j = 21 ∨ j = 28 ∨ j = 33 ∨ j = 34 ∨ j = 42 ∨ j = 45 ∨ j = 56) : gI (bgn h n) 1231 j = gI h 1231 j := by
  unfold bgn
  rw [gI_wI, up1_nj _ _ (by omega), up1_nj _ _ (by omega), up1_nj _ _ (by omega), up1_nj _ _ (by omega), up1_nj _ _ (by omega), up1_nj _ _ (by omega), up1_nj _ _ (by omega)]
theorem bgn_f (h : gd_H) (n : Nat) : gI (bgn h n) 1231 0 = 0 ∧ gI (bgn h n) 1231 2 = 0 ∧ gI (bgn h n) 1231 8 = -1 ∧ gI (bgn h n) 1231 3 = Int32.ofNat n ∧ gI (bgn h n) 1231 4 = Int32.ofNat 0 ∧ gI (bgn h n) 1231 5 = -1 ∧ gI (bgn h n) 1231 7 = Int32.ofNat 0 := by
  unfold bgn
  rw [gI_wI]
  refine ⟨?_, ?_, ?_, ?_, ?_, ?_, ?_⟩ <;> simp [up1] <;> rfl
theorem bgn_MB {h : gd_H} {D : gdD} (hi : MI h D) (hD : DI D) {n : Nat} (hn : n ≤ dFed D) : MB (bgn h n) (txt D n) := by
  obtain ⟨hm, -, -, -, -, -, -, -, -, -, ⟨t1, t2, t3⟩, -⟩ := hi
  obtain ⟨f0, f2, f8, f3, f4, f5, f7⟩ := bgn_f h n
  refine ⟨hm, ⟨f3, f5⟩, fun j hj => ?_, txt_o hD hn t2⟩
  have hj : j < n := hj
  rw [bgn_b h n (by omega), t3 j (by omega)]
  exact txt_b hD hn hj
theorem up1_id {α : Type} {f : Nat → Nat → α} {a k : Nat} {v : α} (h : f a k = v) : up1 f a k v = f := by
  funext b j
  unfold up1
  by_cases z : b = a ∧ j = k
  · rw [if_pos z, z.1, z.2, h]
  · rw [if_neg z]
/-- a reading is over: what stands -/
theorem MI.f0 {h h' : gd_H} {D : gdD} {n : Nat} (hi : MI h D) (q : MZ (bgn h n) h') (f8 : Int32) : MI (wI h' (up1 (gI h') 1231 8 f8)) (dF0 D f8) := by
  obtain ⟨I', J', rfl, hI, hj, -⟩ := q
  obtain ⟨hm, hBN, ⟨i1, i2, i3⟩, i4, i5, i6, i7, i8, ⟨i9, i9'⟩, ⟨i10, i11, i12⟩, ⟨t1, t2, t3⟩, fa, ⟨b1, b2, b3⟩, rs, ⟨r0, r1⟩, lw⟩ := hi
  obtain ⟨f0, f2, -⟩ := bgn_f h n
  have eI : ∀ b, b = 1238 ∨ b = 1240 ∨ b = 1241 ∨ b = 1244 ∨ b = 1245 ∨ b = 1250 ∨ b = 1252 ∨ b = 1255 ∨ b = 1263 ∨ b = 1232 → up1 I' 1231 8 f8 b = gI h b := fun b hb => (up1_nc _ _ _ (by omega)).trans ((hI b (by unfold mper; omega)).trans (bgn_b h n (by omega)))
  have ej : ∀ j, j = 20 ∨ j = 21 ∨ j = 28 ∨ j = 33 ∨ j = 34 ∨ j = 42 ∨ j = 45 ∨ j = 56 → up1 I' 1231 8 f8 1231 j = gI h 1231 j := fun j h1 => (up1_nj _ _ (by omega)).trans ((hj j (by rcases h1 with h1 | h1 | h1 | h1 | h1 | h1 | h1 | h1 <;> (rw [h1]; decide))).trans (bgn_j h n h1))
  have e2 : up1 I' 1231 8 f8 1231 2 = 0 := (up1_nj _ _ (by omega)).trans ((hj 2 (by decide)).trans f2)
  have e8 : up1 I' 1231 8 f8 1231 8 = f8 := up1_eq _ _ _ _
  have e1238 := eI 1238 (by omega)
  have e1240 := eI 1240 (by omega)
  have e1241 := eI 1241 (by omega)
  have e1250 := eI 1250 (by omega)
  have e1252 := eI 1252 (by omega)
  have e1263 := eI 1263 (by omega)
  have e1255 := eI 1255 (by omega)
  have e1232 := eI 1232 (by omega)
  unfold MI MLx at *
  simp only [gI_wJ, gI_wI, ej 20 (by omega), ej 21 (by omega), ej 28 (by omega), ej 33 (by omega), ej 34 (by omega), ej 42 (by omega), ej 45 (by omega), ej 56 (by omega), e2, e8, e1238, e1240, e1241, e1250, e1252, e1263, e1255, e1232, eI 1244 (by omega), eI 1245 (by omega)]
  exact ⟨hm, hBN, ⟨i1, i2, i3⟩, i4, i5, i6, i7, i8, ⟨i9, i9'⟩, ⟨i10, i11, i12⟩, ⟨rfl, Nat.zero_le _, fun j hj => absurd hj (Nat.not_lt_zero j)⟩, rfl, ⟨b1, b2, b3⟩, rs, ⟨r0, r1⟩, lw⟩
theorem bgn_fm (h : gd_H) (n : Nat) : FM h (bgn h n) := ⟨gI (bgn h n), gJ h, rfl, fun b hb => bgn_b h n (by omega)⟩
theorem MI.law {h : gd_H} {D : gdD} {V : gdV} (hi : MI h D) (I' : Nat → Nat → Int32) (h1 : ∀ b, b ≠ 1231 → b ≠ 1244 → b ≠ 1245 → I' b = gI h b) (h2 : ∀ j, j ≠ 28 → I' 1231 j = gI h 1231 j) (hl : MLx I' V) : MI (wI h I') (dV D V) := by
  obtain ⟨hm, hBN, ⟨i1, i2, i3⟩, i4, i5, i6, i7, i8, ⟨i9, i9'⟩, ⟨i10, i11, i12⟩, ⟨t1, t2, t3⟩, fa, ⟨b1, b2, b3⟩, rs, ⟨r0, r1⟩, lw⟩ := hi
  unfold MI at *
  simp only [gI_wI, h2 20 (by omega), h2 21 (by omega), h2 33 (by omega), h2 34 (by omega), h2 42 (by omega), h2 45 (by omega), h2 56 (by omega), h2 2 (by omega), h2 8 (by omega), h1 1238 (by omega) (by omega) (by omega), h1 1240 (by omega) (by omega) (by omega), h1 1241 (by omega) (by omega) (by omega), h1 1250 (by omega) (by omega) (by omega), h1 1252 (by omega) (by omega) (by omega), h1 1263 (by omega) (by omega) (by omega), h1 1255 (by omega) (by omega) (by omega), h1 1232 (by omega) (by omega) (by omega), h1 1233 (by omega) (by omega) (by omega)]
  exact ⟨hm, hBN, ⟨i1, i2, i3⟩, i4, i5, i6, i7, i8, ⟨i9, i9'⟩, ⟨i10, i11, i12⟩, ⟨t1, t2, t3⟩, fa, ⟨b1, b2, b3⟩, rs, ⟨r0, r1⟩, hl⟩
/-- the fault's place is laid down -/
theorem sp199 {h : gd_H} {k pl : Nat} (hb : BS h) (h5 : gI h 1231 5 = Int32.ofNat pl) (h6 : gI h 1231 6 = Int32.ofNat k) {d : Nat} (hd : 2 ≤ d) (v : Int32) : run gd_P0 d 199 [.ref 1231, .int v] h = some (.inl (some (.int (Int32.ofNat k - 10))), wI h (up1 (gI h) 1231 8 (Int32.ofNat pl))) := by
  obtain ⟨d, rfl⟩ : ∃ e, d = e + 1 := ⟨d - 1, by omega⟩
  have hbs : BS (wI h (up1 (gI h) 1231 8 (Int32.ofNat pl))) := ⟨hb.1.wI _, by rw [gI_wI, up1_nj _ _ (by omega)]; exact hb.2⟩
  rw [r199, s199_0, if_pos hb.1.t, if_pos hb.1.t, if_pos hb.1.t, h5, b185 hbs (by omega), gc_v, s199_12, if_pos rfl, if_pos hbs.1.t, gI_wI, up1_nj _ _ (by omega), h6, s199_26]
theorem sp199g {h : gd_H} {X : gdX} (hb : MB h X) (p o : Nat) (h8 : gI h 1231 8 = -1) {d : Nat} (hd : 2 ≤ d) (v : Int32) : run gd_P0 d 199 [.ref 1231, .int v] (mm h p o) = some (.inl (some (.int v)), mm h p o) := by
  obtain ⟨d, rfl⟩ : ∃ e, d = e + 1 := ⟨d - 1, by omega⟩
  have e : wI (mm h p o) (up1 (gI (mm h p o)) 1231 8 (gI (mm h p o) 1231 5)) = mm h p o := by
    have : up1 (gI (mm h p o)) 1231 8 (gI (mm h p o) 1231 5) = gI (mm h p o) := by
      funext b j
      simp only [up1]
      by_cases z : b = 1231 ∧ j = 8
      · rw [if_pos z, z.1, z.2, mm_j h p o (by omega) (by omega), mm_j h p o (by omega) (by omega), hb.2.1.2, h8]
      · rw [if_neg z]
    rw [this, wI_self]
  rw [r199, s199_0, gT_mm, if_pos hb.1.t, if_pos hb.1.t, if_pos hb.1.t, e, m185 hb (by omega), gc_v, s199_12, if_neg (show ¬ (1 : Int32) = 0 by decide), s199_26]
theorem m200 {D : gdD} {n : Nat} (hn : n ≤ dFed D) (hn5 : n ≤ 150) : MDo 200 [.int (Int32.ofNat n)] D (LD D (lLaw (txt D n))).1 (LD D (lLaw (txt D n))).2 := by
  intro d h hd hi hD hS
  obtain ⟨d, rfl⟩ : ∃ e, d = e + 1 := ⟨d - 1, by omega⟩
  obtain ⟨hm, -, -, -, -, -, -, -, -, -, ⟨t1, t2, t3⟩, -⟩ := id hi
  obtain ⟨f0, f2, f8, f3, f4, f5, f7⟩ := bgn_f h n
  have hX := txt_o hD hn t2
  have hb0 := bgn_MB hi hD hn
  generalize eB : wI (bgn h n) (up1 (gI (bgn h n)) 1231 27 0) = hb
  have qB : MZ (bgn h n) hb := by rw [← eB]; exact MZ.th 27 0 (by decide)
  have gB : ∀ j, j ≠ 27 → gI hb 1231 j = gI (bgn h n) 1231 j := fun j hj => by rw [← eB, gI_wI, up1_nj _ _ hj]
  have hbB : MB hb (txt D n) := by
    obtain ⟨b1, ⟨b2, b3⟩, b4, b5⟩ := hb0
    exact ⟨b1.mz qB, ⟨(gB 3 (by omega)).trans b2, (gB 5 (by omega)).trans b3⟩, fun j hj => by rw [← eB, gI_wI, up1_nc _ _ _ (by omega)]; exact b4 j hj, b5⟩
  have c27 : gI hb 1231 27 = Int32.ofNat 0 := by rw [← eB, gI_wI, up1_eq]; rfl
  have hSB : SK hb := (hS.fm (bgn_fm h n)).mz qB
  have eM : mm hb 0 0 = hb := mm_self ((gB 4 (by omega)).trans f4) ((gB 7 (by omega)).trans f7)
  have hX5 : xn (txt D n) ≤ 150 := hn5
  have out := msSu hX5 d hb 0 0 (by omega) hbB hSB c27 (Nat.zero_le _) (Nat.le_refl _)
  rw [eM] at out
  have g := lSu_g (X := txt D n) (fun p hp => lUn_g 6 hp) (Nat.zero_le (xn (txt D n)))
  -- the faulty end
  have bad : ∀ (h' : gd_H) (k pl : Nat), ME hb k pl h' → pl < 100000 → ∃ h2, go gd_P0 d 200 77 [.ref 1231, .null, .null] [] h' = some (.inl (some (.int (Int32.ofNat k - 10))), h2) ∧ MI h2 (dF0 D (Int32.ofNat pl)) ∧ FM h h2 ∧ gI h2 1231 0 = 0 := by
    intro h' k pl me hp
    have hbs := me.bs hbB.1 hp
    refine ⟨wI h' (up1 (gI h') 1231 8 (Int32.ofNat pl)), ?_, hi.f0 (qB.trans me.1.1) (Int32.ofNat pl), (bgn_fm h n).trans ((qB.trans me.1.1).fm.trans (FM.wI _ _ (fun b hb => up1_nc _ _ _ (by omega)))), ?_⟩
    rotate_left
    · rw [gI_wI, up1_nj _ _ (by omega), me.1.2, gB 0 (by omega)]; exact f0
    have n5 : ¬ gI (wI h' (up1 (gI h') 1231 8 (Int32.ofNat pl))) 1231 5 = -1 := by rw [gI_wI, up1_nj _ _ (by omega)]; exact hbs.2
    rw [s200_77, if_pos hbs.1.t, sp199 hbs me.2.1 me.2.2 (by omega), gc_v, s200_82, if_pos (hbs.1.wI _).t, if_neg n5]
  have E : run gd_P0 (d + 1) 200 [.ref 1231, .int (Int32.ofNat n)] h = gc gd_P0 d 200 51 54 [.ref 1231, .null, .null] [] (run gd_P0 d 201 [.ref 1231] hb) := by
    have z1 : ¬ Int32.ofNat n < 0 := by rw [j_neg (by omega)]; exact fun z => z
    have z2 : ¬ (up1 (gI h) 1231 0 0 1231 2) < Int32.ofNat n := by rw [up1_nj _ _ (by omega), t1, j_lt (by omega) (by omega)]; omega
    have z3 : ¬ (150 : Int32) < Int32.ofNat n := by rw [show (150 : Int32) = Int32.ofNat 150 from rfl, j_lt (by omega) (by omega)]; omega
    rw [r200, s200_0, if_pos hm.t, if_neg z1, if_pos hm.t, if_neg z2, if_neg z3, s200_30, gT_wI, if_pos hm.t, sp183 (hm.wI _) (by rw [gI_wI, up1_eq]) (by omega), gc_v, s200_35, if_neg (show ¬ (1 : Int32) = 0 by decide), gT_wI, if_pos hm.t, sp184 hm n (by omega), gc_n, s200_45, if_pos hb0.1.t, if_pos hb0.1.t, eB]
  rw [E]
  unfold lLaw
  revert out g
  rcases lSu (txt D n) (lUn (txt D n) 6) 0 with ⟨k, pl⟩ | ⟨p, a⟩
  · rintro ⟨h', e, me⟩ g
    have hX6 := hX.1
    have hp : pl < 100000 := by have := g.2; omega
    have hbs := me.bs hbB.1 hp
    obtain ⟨h2, e2, m2, f2'⟩ := bad h' k pl me hp
    refine ⟨h2, ?_, m2, f2'⟩
    · rw [e, gc_n, s200_54, if_pos hbs.1.t, b185 hbs (by omega), gc_v, s200_58, if_pos rfl, e2]
      rfl
  · rintro ⟨h2, e, w⟩ ⟨-, g2, g3, g4⟩
    have hb2 := hbB.cw w
    have g2' : p ≤ n := g2
    have gs := sk_ge (txt D n) p
    have gs2 := sk_le g2
    rw [e, gc_n, s200_54, gT_mm, if_pos hb2.1.t, m185 hb2 (by omega), gc_v, s200_58, if_neg (show ¬ (1 : Int32) = 0 by decide), gT_mm, if_pos hb2.1.t, m186 hb2 (by omega) g2, gc_v, s200_65, qb_r]
    by_cases c : sk (txt D n) p < xn (txt D n)
    · have c' : sk (txt D n) p < n := c
      obtain ⟨h', e1, me⟩ := m192 hb2 (d := d) (by omega) (sk (txt D n) p) 0 1 (sk (txt D n) p)
      have e1 : run gd_P0 d 192 [.ref 1231, .int 1, .int (Int32.ofNat (sk (txt D n) p))] (mm h2 (sk (txt D n) p) 0) = _ := e1
      obtain ⟨h3, e3, m3, f3'⟩ := bad h' 1 (sk (txt D n) p) (me.mz w.z0) (by omega)
      refine ⟨h3, ?_, ?_, f3'⟩
      · rw [if_pos c, if_pos c, if_neg (show ¬ (1 : Int32) = 0 by decide), gT_mm, if_pos hb2.1.t, if_pos hb2.1.t, mm_4, e1, gc_n, e3]
        rfl
      · rw [if_pos c]; exact m3
    · have w8 : gI h2 1231 8 = -1 := by
        obtain ⟨I2, rfl, y1, y2, -⟩ := w
        exact (y2 8 (by omega)).trans ((gB 8 (by omega)).trans f8)
      have w0 : gI h2 1231 0 = 0 := w.z0.2.trans ((gB 0 (by omega)).trans f0)
      have hm2 := hb2.1
      have hlen : a.1.length ≤ 150 := by omega
      rw [if_neg c, if_neg c, if_pos rfl, s200_77, gT_mm, if_pos hb2.1.t, sp199g hb2 _ _ w8 (by omega), gc_v, s200_82]
      generalize eG : mm h2 (sk (txt D n) p) 0 = G
      have mG : MS G := by rw [← eG]; exact hm2
      have G5 : gI G 1231 5 = -1 := by rw [← eG, mm_j _ _ _ (by omega) (by omega)]; exact hb2.2.1.2
      have G27 : gI G 1231 27 = Int32.ofNat a.1.length := by rw [← eG, mm_j _ _ _ (by omega) (by omega), w.c, Nat.zero_add]
      have Gc : ∀ b, b ≠ 1231 → gI G b = gI h2 b := fun b hb => by rw [← eG]; exact mm_b _ _ _ hb
      have G8 : gI G 1231 8 = -1 := by rw [← eG, mm_j _ _ _ (by omega) (by omega)]; exact w8
      have G0 : gI G 1231 0 = 0 := by rw [← eG, mm_j _ _ _ (by omega) (by omega)]; exact w0
      have qG : MZ (bgn h n) G := by rw [← eG]; exact qB.trans (w.mz.trans (MZ.mm _ _ _))
      have miG : MI G (dF0 D (-1)) := by
        have := hi.f0 qG (-1)
        rw [up1_id G8, wI_self] at this
        exact this
      have e27 : up1 (gI G) 1231 28 (gI G 1231 27) 1231 27 = Int32.ofNat a.1.length := by rw [up1_nj _ _ (by omega)]; exact G27
      have c1 := sp179 (h := wI G (up1 (gI G) 1231 28 (Int32.ofNat a.1.length))) (a := 1242) (b := 1244) (n := a.1.length) (m_t22 mG) (m_t24 mG) (m_l22 mG) (m_l24 mG) hlen hlen (by omega) (by omega) 1231 (d := d) (by omega)
      generalize eI1 : cpy (gI (wI G (up1 (gI G) 1231 28 (Int32.ofNat a.1.length)))) 1242 0 1244 0 a.1.length = I1
      rw [eI1] at c1
      have c2 := sp179 (h := wI G I1) (a := 1243) (b := 1245) (n := a.1.length) (m_t23 mG) (m_t25 mG) (m_l23 mG) (m_l25 mG) hlen hlen (by omega) (by omega) 1231 (d := d) (by omega)
      have I27 : I1 1231 27 = Int32.ofNat a.1.length := by rw [← eI1, cpy_ne _ (by omega), gI_wI, up1_nj _ _ (by omega)]; exact G27
      refine ⟨wI G (cpy I1 1243 0 1245 0 a.1.length), ?_, ?_, ?_, ?_⟩
      · rw [if_pos mG.t, if_pos G5, if_pos mG.t, if_pos mG.t, if_pos mG.t, if_pos mG.t, if_pos mG.t, if_pos mG.t, e27, G27, m_r22 mG, m_r24 mG]
        refine Eq.trans (congrArg (gc gd_P0 d 200 114 117 _ _) c1) ?_
        rw [gc_n, s200_117]
        simp only [gT_wI, gR_wI, gI_wI, mG.t, ↓reduceIte, m_r23 mG, m_r25 mG, I27]
        refine Eq.trans (congrArg (gc gd_P0 d 200 130 133 _ _) c2) ?_
        rw [gc_n, s200_133]
        rfl
      · refine miG.law _ (fun b b1 b2 b3 => ?_) (fun j hj => ?_) ⟨a.1, hlen, ?_, fun k x hk => ?_, Or.inr ⟨_, g3⟩⟩
        · rw [cpy_ne _ b3, ← eI1, cpy_ne _ b2, gI_wI, up1_nc _ _ _ b1]
        · rw [cpy_ne _ (by omega), ← eI1, cpy_ne _ (by omega), gI_wI, up1_nj _ _ hj]
        · rw [cpy_ne _ (by omega), ← eI1, cpy_ne _ (by omega), gI_wI, up1_eq]
        · have hk2 : k < a.1.length := (List.getElem?_eq_some_iff.mp hk).1
          obtain ⟨I2, e2, y1, y2, y3, y4, y5⟩ := w
          obtain ⟨z1, z2⟩ := y5 k hk2
          rw [Nat.zero_add] at z1 z2
          have ex : a.1.getD k (0, 0) = x := by rw [List.getD_eq_getElem?_getD, hk]; rfl
          rw [ex] at z1 z2
          have i2 : gI h2 = I2 := by rw [e2]; rfl
          refine ⟨?_, ?_⟩
          · rw [cpy_ne _ (by omega), ← eI1, cpy_in _ hk2, gI_wI, up1_nc _ _ _ (by omega), Gc _ (by omega), i2]; exact z1
          · rw [cpy_in _ hk2, ← eI1, cpy_ne _ (by omega), gI_wI, up1_nc _ _ _ (by omega), Gc _ (by omega), i2]; exact z2
      · refine (bgn_fm h n).trans (qG.fm.trans (FM.wI _ _ fun b hb => ?_))
        rw [cpy_ne _ (by omega), ← eI1, cpy_ne _ (by omega), gI_wI, up1_nc _ _ _ (by omega)]
      · rw [gI_wI, cpy_ne _ (by omega), ← eI1, cpy_ne _ (by omega), gI_wI, up1_nj _ _ (by omega)]; exact G0
theorem m200n {D : gdD} {v : Int32} (hf : dFed D ≤ 600) (hv : v < 0 ∨ Int32.ofNat (min (dFed D) 150) < v) : MNo 200 [.int v] D 25 1 (.int 0) := by
  intro d h hd hi hD
  obtain ⟨d, rfl⟩ : ∃ e, d = e + 1 := ⟨d - 1, by omega⟩
  obtain ⟨hm, -, -, -, -, -, -, -, -, -, ⟨t1, t2, t3⟩, -⟩ := id hi
  have e183 := sp183n (h := wI h (up1 (gI h) 1231 0 0)) (hm.wI _) (by rw [gI_wI, up1_eq]) (d := d) (by omega) (c := 1) (by decide) 25 (by omega) (by omega)
  rw [mthr_z] at e183
  have E : go gd_P0 d 200 29 [.ref 1231, .int v, .null] [.ref 1231] (wI h (up1 (gI h) 1231 0 0)) = some (.inl (some (.int 0)), mthr 25 1 h) := by
    rw [s200_29, s200_30, gT_wI, if_pos hm.t]
    refine Eq.trans (congrArg (gc gd_P0 d 200 32 35 _ _) e183) ?_
    rw [gc_v, s200_35, if_pos rfl]
  rw [r200, s200_0, if_pos hm.t]
  by_cases c1 : v < 0
  · rw [if_pos c1]; exact E
  rw [if_neg c1, if_pos hm.t, up1_nj _ _ (by omega), t1]
  by_cases c2 : Int32.ofNat (dFed D) < v
  · rw [if_pos c2]; exact E
  rw [if_neg c2]
  have c3 : (150 : Int32) < v := by
    rcases hv with hv | hv
    · exact absurd hv c1
    · by_cases q : dFed D ≤ 150
      · rw [Nat.min_eq_left q] at hv; exact absurd hv c2
      · rw [Nat.min_eq_right (by omega)] at hv; exact hv
  rw [if_pos c3]; exact E
theorem LD_i {D : gdD} (hD : DI D) {n : Nat} : DI (LD D (lLaw (txt D n))).2 := by
  have g := lLaw_g (txt D n)
  revert g
  rcases lLaw (txt D n) with ⟨k, pl⟩ | ⟨p, a⟩
  · intro _; exact hD.f0 _
  · intro g; exact (hD.f0 _).v (den_8 _ _ _ g.2.2.1)

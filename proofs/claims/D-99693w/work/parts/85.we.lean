/-! ===== WORK: the class reads, the loops ===== -/
set_option maxRecDepth 100000
theorem YO.sk {ρ o p q : Nat} {h : gd_H} {E : gdE} {r : gdQ gdY} {out : Option gd_O} (y : YO ρ h o E q r out) (hq : p ≤ q) : YO ρ h o E p r out := by
  rcases r with ⟨kk, pl⟩ | ⟨p', a⟩
  · exact WE.up y (by omega)
  · obtain ⟨h', t, e, k, w⟩ := y
    exact ⟨h', t, e, k.up (by omega), RWs_cg (Nat.le_refl _) (Nat.le_refl _) (fun _ _ _ => ⟨rfl, rfl, rfl, rfl⟩) _ _ _ _ (by omega) w⟩
theorem ZI.up {h0 h : gd_H} {E : gdE} {r tm p0 p p' c : Nat} {V : gdT → gdT} (z : ZI h0 h E r tm p0 p V c) (hp : p ≤ p') : ZI h0 h E r tm p0 p' V c := by
  obtain ⟨m, arr, Vi, a, b, c, e1, e2, e3, k0⟩ := z
  refine ⟨m, arr, Vi, a, b, c, by omega, fun i hi => ?_, e3, k0.up (by omega)⟩
  obtain ⟨l, u, x, w⟩ := e2 i hi
  exact ⟨l, u, x, RWs_cg (Nat.le_refl _) (Nat.le_refl _) (fun _ _ _ => ⟨rfl, rfl, rfl, rfl⟩) _ _ _ _ (by omega) w⟩
/-- how a loop over steps ends -/
def LZ (X : gdX) (en δ o ρ : Nat) (h0 : gd_H) (E : gdE) (r tm p0 c : Nat) : gdQ gdY → Option gd_O → Prop
  | .inl (k, pl), out => WE ρ (5 * (160 - p0) + c) h0 k pl out
  | .inr (p', b), out => ∃ h', out = some (.inl (some (.ref r)), rz h' ρ (p' + δ) o) ∧ ZI h0 h' E r tm p0 p' b.2 c ∧ (p0 ≤ p' ∧ p' ≤ xn X) ∧ ch X p' = en
theorem lp127 {X : gdX} {E : gdE} {o dm : Nat} {one : Nat → gdQ gdY} (hone : YVs X E (o + 1) one dm) (hg : ∀ p, p ≤ xn X → QG X p (YG E p) (one p)) (hsk : ∀ p, p ≤ xn X → one (sk X p) = one p) (h15 : xn X ≤ 150) {d : Nat} (hd : dm ≤ d) (hd1 : 6 ≤ d) {h0 : gd_H} {ρ κ ω σ r tm p0 : Nat} (hb : RB h0 ρ X) (hS : SK h0) (hw : WK h0 κ ρ ω σ E) : ∀ (f p : Nat) (h : gd_H) (a : gdY), xn X < f + p → p0 ≤ p → p ≤ xn X → ZI h0 h E r tm p0 p a.2 2 → LZ X 93 1 o ρ h0 E r tm p0 2 (wLp X 93 one f p a) (go gd_P0 d 127 27 [.ref κ, .ref r] [] (rz h ρ p (o + 1)))
  | 0, p, h, a, x0, x1, x2, z => absurd x0 (by omega)
  | f + 1, p, h, a, x0, x1, x2, z => by
    have k0 := z.ke
    have hb1 := hb.ke k0
    have hw1 := hw.ke k0
    have hS1 := hS.ke k0 (by have := hb.2.2.2.1; omega)
    have hρ := hb.2.2.2.1
    have g1 := sk_ge X p
    have g2 := sk_le x2
    have zt := z.ty
    rw [s127_27, gT_rz, if_pos hw1.1.1, gR_rz, hw1.1.2.2.1, if_pos hb1.1.1, show (93 : Int32) = Int32.ofNat 93 from rfl, sp109 hb1 (by omega) x2 (o + 1) (by omega), gc_v, s127_36, wLp]
    by_cases c : ch X (sk X p) = 93
    · rw [if_pos c, if_pos c, if_pos c, if_neg (by decide), gT_rz, if_pos hw1.1.1, gR_rz, hw1.1.2.2.1, if_pos hb1.1.1, sp108 hb1 (by omega), gc_n, s127_57]
      exact ⟨h, rfl, z.up g1, ⟨by omega, g2⟩, c⟩
    · rw [if_neg c, if_neg c, if_neg c, if_pos rfl, gT_rz, if_pos hw1.1.1]
      have y := (hone d h ρ κ ω σ (sk X p) hd hb1 hS1 hw1 g2).sk g1
      have g := hg p x2
      rw [hsk p x2] at y
      revert y g
      rcases one p with ⟨kk, pl⟩ | ⟨p', b⟩
      · intro y _
        exact (WE.ke y k0 (by omega) (by omega)).gc rfl
      · rintro ⟨h2, t, e, k, w⟩ ⟨g3, g4, g5⟩
        obtain ⟨h3, e3, z3⟩ := zstep (o := o + 1) (d := d) z k w x1 (YG_4 g5) (by omega) hρ.2 (by omega) (by omega)
        rw [e, gc_v, s127_44, gT_rz, if_pos ((k.2 r zt.2.2).1.trans zt.1), e3, gc_n, s127_47, qb_r]
        exact lp127 hone hg hsk h15 hd hd1 hb hS hw f p' h3 (yAdd a b) (by omega) (by omega) g4 z3
theorem lp124 {X : gdX} {E : gdE} {dm : Nat} {one : Nat → gdQ gdY} (hone : YVs X E 0 one dm) (hg : ∀ p, p ≤ xn X → QG X p (YG E p) (one p)) (hsk : ∀ p, p ≤ xn X → one (sk X p) = one p) (h15 : xn X ≤ 150) {d : Nat} (hd : dm ≤ d) (hd1 : 6 ≤ d) {h0 : gd_H} {ρ κ ω σ r tm p0 : Nat} (hb : RB h0 ρ X) (hS : SK h0) (hw : WK h0 κ ρ ω σ E) : ∀ (f p : Nat) (h : gd_H) (a : gdY), xn X < f + p → p0 ≤ p → p ≤ xn X → ZI h0 h E r tm p0 p a.2 2 → LZ X 256 0 0 ρ h0 E r tm p0 2 (wLp X 256 one f p a) (go gd_P0 d 124 9 [.ref κ, .ref r] [] (rz h ρ p 0))
  | 0, p, h, a, x0, x1, x2, z => absurd x0 (by omega)
  | f + 1, p, h, a, x0, x1, x2, z => by
    have k0 := z.ke
    have hb1 := hb.ke k0
    have hw1 := hw.ke k0
    have hS1 := hS.ke k0 (by have := hb.2.2.2.1; omega)
    have hρ := hb.2.2.2.1
    have hX : XO X := hb.2.2.2.2
    have g1 := sk_ge X p
    have g2 := sk_le x2
    have zt := z.ty
    have xe := xv_m1 hX (sk X p)
    rw [s124_9, gT_rz, if_pos hw1.1.1, gR_rz, hw1.1.2.2.1, if_pos hb1.1.1, sp97 hb1 (by omega) x2 0, gc_v, s124_16, wLp]
    by_cases c : ch X (sk X p) = 256
    · rw [if_pos c, if_pos (show xv X (sk X p) = -1 by rw [xe]; exact c)]
      exact ⟨h, rfl, z.up g1, ⟨by omega, g2⟩, c⟩
    · rw [if_neg c, if_neg (show ¬ xv X (sk X p) = -1 by rw [xe]; exact c), gT_rz, if_pos hw1.1.1]
      have y := (hone d h ρ κ ω σ (sk X p) hd hb1 hS1 hw1 g2).sk g1
      have g := hg p x2
      rw [hsk p x2] at y
      revert y g
      rcases one p with ⟨kk, pl⟩ | ⟨p', b⟩
      · intro y _
        exact (WE.ke y k0 (by omega) (by omega)).gc rfl
      · rintro ⟨h2, t, e, k, w⟩ ⟨g3, g4, g5⟩
        obtain ⟨h3, e3, z3⟩ := zstep (o := 0) (d := d) z k w x1 (YG_4 g5) (by omega) hρ.2 (by omega) (by omega)
        rw [e, gc_v, s124_25, gT_rz, if_pos ((k.2 r zt.2.2).1.trans zt.1), e3, gc_n, s124_28, qb_r]
        exact lp124 hone hg hsk h15 hd hd1 hb hS hw f p' h3 (yAdd a b) (by omega) (by omega) g4 z3
/-- a row begins -/
theorem zrow {h : gd_H} {ρ p o tm : Nat} {X : gdX} {E : gdE} (hb : RB h ρ X) {d : Nat} (hd : 2 ≤ d) (p0 : Nat) : ∃ h', run gd_P0 d 129 [.ref (gS h), .int (Int32.ofNat tm)] (rz (nw h 18 0 3) ρ p o) = some (.inl none, rz h' ρ p o) ∧ Ke 2 h h' ∧ ZI h h' E (gS h) tm p0 p0 y0.2 2 := by
  have hρ := hb.2.2.2.1
  obtain ⟨G, eG, ⟨s1, s2⟩, kp, i1, i2, i3, i4, i5⟩ := sp129 (G := rz (nw h 18 0 3) ρ p o) (r := gS h) (by rw [gT_rz, gT_nw, if_pos rfl]) (by omega) (by rw [gS_rz, gS_nw]; omega) (Int32.ofNat tm) hd
  rw [gS_rz, gS_nw] at s1 i3 i4 i5 kp
  rw [gU_rz, gU_nw] at s2
  have gρ : gI G ρ = gI (rz (nw h 18 0 3) ρ p o) ρ := ((kp ρ (by omega)).2.2 (by omega)).1
  obtain ⟨h', eq, u1, u2, u3, u4, u5, u6, u7⟩ := unrz gρ
  rw [← u3] at i4 kp
  rw [← u4] at i5 kp
  rw [← u5] at i3 kp
  rw [← u6] at s1
  rw [← u7] at s2
  have r1 : gI h' (gS h) = gI G (gS h) := u2 _ (by omega)
  rw [← r1] at i1 i2
  have kn := Ke.nw h 18 0 3 (by omega)
  have k2 : Ke 2 h h' := by
    refine kn.mut (c' := 1) ⟨by rw [gS_nw]; omega, by rw [gS_nw]; omega, by rw [gU_nw]; omega⟩ (fun b hb => ?_) (by omega)
    obtain ⟨y1, y2, y3⟩ := kp b (by omega)
    refine ⟨y1, y2, ?_, (y3 (by omega)).2⟩
    by_cases q : b = ρ
    · rw [q]; exact u1
    · rw [u2 b q, (y3 (by omega)).1, rz_b _ _ _ _ q]
  refine ⟨h', by rw [eG, eq], k2, ?_⟩
  refine ⟨0, gS h + 1, fun _ s => s, ⟨?_, i2, ?_, i3, i4⟩, ⟨Nat.zero_le _, by omega, by omega⟩, ⟨Nat.le_refl _, by omega, by omega, by omega, by omega⟩, by omega, fun i hi => absurd hi (Nat.not_lt_zero i), rfl, k2.up (by omega)⟩
  · rw [(kp (gS h) (by omega)).1, gT_rz, gT_nw, if_pos rfl]
  · rw [i1 2 (by decide), rz_b _ _ _ _ (by omega), gI_nw, if_pos rfl]
    rfl
theorem spA {X : gdX} {E : gdE} {o dm : Nat} {one : Nat → gdQ gdY} (hdm : 6 ≤ dm) (hone : YVs X E (o + 1) one dm) (hg : ∀ p, p ≤ xn X → QG X p (YG E p) (one p)) (hsk : ∀ p, p ≤ xn X → one (sk X p) = one p) (h15 : xn X ≤ 150) : AVs X E o (wAg X one) (dm + 1) := by
  intro d h ρ κ ω σ p hd hb hS hw hp
  obtain ⟨d, rfl⟩ : ∃ e, d = e + 1 := ⟨d - 1, by omega⟩
  have hρ := hb.2.2.2.1
  have kn := Ke.nw h 18 0 3 (by omega)
  have hb1 := hb.ke kn
  have hw1 := hw.ke kn
  have n := sp104 hb1 (d := d) (by omega) hp (o + 1) (l := 0) (hs := 31) (by omega) (by omega) (hi := 30) (fun v hv => hi_lit (n := 30) (by omega) hv)
  have n : TR ρ 1 (nw h 18 0 3) (o + 1) _ _ (run gd_P0 d 104 [.ref ρ, .int 0, .int 30] (rz (nw h 18 0 3) ρ p (o + 1))) := n
  have g := tN_g (X := X) (lo := 0) (hs := 31) hp
  rw [r127, s127_0, nw_rz h _ _ _ _ _ hρ.2, gS_rz, gT_rz, if_pos hw1.1.1, gR_rz, hw1.1.2.2.1, if_pos hb1.1.1]
  unfold wAg
  revert n g
  rcases tN X 0 31 p with ⟨kk, pl⟩ | ⟨p1, tm⟩
  · intro n _
    exact (WE.ke n kn (by omega) (by omega)).gc rfl
  intro n g
  obtain ⟨a1, a2, a3, a4⟩ := g
  have n : run gd_P0 d 104 [.ref ρ, .int 0, .int 30] (rz (nw h 18 0 3) ρ p (o + 1)) = _ := n
  have hz : ∀ p0, ∃ h', run gd_P0 d 129 [.ref (gS h), .int (Int32.ofNat tm)] (rz (nw h 18 0 3) ρ p1 (o + 1)) = some (.inl none, rz h' ρ p1 (o + 1)) ∧ Ke 2 h h' ∧ ZI h h' E (gS h) tm p0 p0 y0.2 2 := fun p0 => zrow hb (by omega) p0
  rw [n, gc_v, s127_14, gT_rz, if_pos (by rw [gT_nw, if_pos rfl]), qb_r]
  obtain ⟨h2, e2, k2, -⟩ := hz 0
  have hb2 := hb.ke k2
  have hw2 := hw.ke k2
  rw [e2, gc_n, s127_17, gT_rz, if_pos hw2.1.1, gR_rz, hw2.1.2.2.1, if_pos hb2.1.1]
  have m := sp106 hb2 (d := d) (by omega) a2 (o + 1) (c := 91) (by omega)
  have m : TR ρ 1 h2 (o + 1) _ _ (run gd_P0 d 106 [.ref ρ, .int 91] (rz h2 ρ p1 (o + 1))) := m
  have g := tS_g (X := X) (c := 91) (by decide) a2
  revert m g
  rcases tS X 91 p1 with ⟨kk, pl⟩ | ⟨p2, ⟨⟩⟩
  · intro m _
    exact (WE.ke m k2 (by omega) (by omega)).gc rfl
  intro m g
  obtain ⟨b1, b2, -⟩ := g
  have m : run gd_P0 d 106 [.ref ρ, .int 91] (rz h2 ρ p1 (o + 1)) = _ := m
  rw [m, gc_n, qb_r]
  obtain ⟨h3, e3, k3, z3⟩ := hz p2
  have e23 : rz h2 ρ p1 (o + 1) = rz h3 ρ p1 (o + 1) := by
    have := e2.symm.trans e3
    injection this with this
    injection this
  have e23 : rz h2 ρ p2 (o + 1) = rz h3 ρ p2 (o + 1) := by rw [← rz_w2 h2 ρ p1, e23, rz_w2]
  rw [e23]
  have L := lp127 hone hg hsk h15 (d := d) (by omega) (by omega) hb hS hw (xn X + 1) p2 h3 y0 (by omega) (Nat.le_refl _) b2 z3
  revert L
  rcases wLp X 93 one (xn X + 1) p2 y0 with ⟨kk, pl⟩ | ⟨p3, b⟩
  · intro L
    exact WE.up L (by omega)
  · rintro ⟨h4, e4, z4, ⟨c1, c2⟩, c3⟩
    have := ch_lt (X := X) (q := p3) (by omega)
    exact ⟨h4, gS h, e4, z4.ke.up (by omega), ⟨by omega, by omega⟩, RWs_cg (Nat.le_refl _) (Nat.le_refl _) (fun _ _ _ => ⟨rfl, rfl, rfl, rfl⟩) _ _ _ _ (by omega) (z4.rw (by omega) (by omega))⟩
theorem wUb_sk {X : gdX} {E : gdE} {big : Bool} {S : Nat → gdQ gdY} {p : Nat} (hp : p ≤ xn X) : wUb X E big S (sk X p) = wUb X E big S p := by
  unfold wUb
  rw [sk_sk hp]
theorem wUn_sk {X : gdX} {E : gdE} (m : Nat) {p : Nat} (hp : p ≤ xn X) : wUn X E m (sk X p) = wUn X E m p := by
  cases m with
  | zero => exact wUb_sk hp
  | succ m => exact wUb_sk hp
theorem spYn {X : gdX} {E : gdE} (h15 : xn X ≤ 150) : ∀ (m o : Nat), o + m = 6 → YVs X E o (wUn X E m) (7 + 2 * m)
  | 0, o, h => by
    rw [wUn_0]
    exact spY (by omega) h15 (fun _ => by omega) (fun z => by cases z)
  | m + 1, o, h => by
    rw [wUn_s, show 7 + 2 * (m + 1) = 7 + 2 * m + 1 + 1 by omega]
    exact spY (o := o) (dm := 7 + 2 * m + 1) (by omega) h15 (fun z => by cases z) (fun _ => ⟨by omega, spA (by omega) (spYn h15 m (o + 1) (by omega)) (fun p hp => wUn_g m hp) (fun p hp => wUn_sk m hp) h15⟩)
/-- the class reads a work -/
theorem sp124 {h : gd_H} {ρ κ ω σ : Nat} {X : gdX} {E : gdE} (h15 : xn X ≤ 150) (hb : RB h ρ X) (hS : SK h) (hw : WK h κ ρ ω σ E) {d : Nat} (hd : 24 ≤ d) : LZ X 256 0 0 ρ h E (gS h) 1 0 2 (wWork X E) (run gd_P0 d 124 [.ref κ] (rz h ρ 0 0)) := by
  obtain ⟨d, rfl⟩ : ∃ e, d = e + 1 := ⟨d - 1, by omega⟩
  have hρ := hb.2.2.2.1
  obtain ⟨h2, e2, k2, z⟩ := zrow (E := E) (tm := 1) (p := 0) (o := 0) hb (d := d) (by omega) 0
  have e2 : run gd_P0 d 129 [.ref (gS h), .int 1] (rz (nw h 18 0 3) ρ 0 0) = some (.inl none, rz h2 ρ 0 0) := e2
  rw [r124, s124_0, nw_rz h _ _ _ _ _ hρ.2, gS_rz, gT_rz, if_pos (by rw [gT_nw, if_pos rfl]), e2, gc_n, s124_8]
  exact lp124 (spYn h15 6 0 rfl) (fun p hp => wUn_g 6 hp) (fun p hp => wUn_sk 6 hp) h15 (by omega) (by omega) hb hS hw (xn X + 1) 0 h2 y0 (by omega) (Nat.le_refl _) (Nat.zero_le _) z

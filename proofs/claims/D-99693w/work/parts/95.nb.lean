/-! ===== WORK: the model reads rows of steps ===== -/
set_option maxRecDepth 100000
/-- the steps of an again -/
theorem lp268 {X : gdX} {E : gdE} {o dm : Nat} {one : Nat → gdQ gdY} (hone : MYs X E (o + 1) one dm) (hg : ∀ p, p ≤ xn X → QG X p (YG E p) (one p)) (hsk : ∀ p, p ≤ xn X → one (sk X p) = one p) (h15 : xn X ≤ 150) {d : Nat} (hd : dm ≤ d) (hd1 : 6 ≤ d) {h0 : gd_H} (hb : MB h0 X) (hS : SK h0) (hE : EM h0 E) {c0 : Nat} (v3 : Int32) : ∀ (f p : Nat) (h : gd_H) (a : gdY) (w1 w2 : Value), xn X < f + p → p ≤ xn X → VWc c0 a.1 h0 h → 4 * (c0 + a.1.length) ≤ p →
    match wLp X 93 one f p a with
    | .inl (k, pl) => ∃ h', go gd_P0 d 209 268 [.ref 1231, w1, w2, .int v3] [] (mm h p (o + 1)) = go gd_P0 d 209 338 [.ref 1231, .null, .null, .null] [] h' ∧ ME h0 k pl h' ∧ pl ≤ xn X
    | .inr (p', b) => ∃ h', go gd_P0 d 209 268 [.ref 1231, w1, w2, .int v3] [] (mm h p (o + 1)) = go gd_P0 d 209 291 [.ref 1231, .null, .null, .int v3] [] (mm h' p' (o + 1)) ∧ VWc c0 b.1 h0 h' ∧ (p' ≤ xn X ∧ ch X p' = 93 ∧ sk X p' = p')
  | 0, p, h, a, w1, w2, x0, x1, z, hl => absurd x0 (by omega)
  | f + 1, p, h, a, w1, w2, x0, x1, z, hl => by
    have hb1 := hb.vw z
    have hS1 := hS.mz z.mz
    have hE1 := hE.vw z
    have hm := hb1.1
    have hX : XO X := hb.2.2.2
    have g1 := sk_ge X p
    have g2 := sk_le x1
    have e93 : (mv X (sk X p) = 93) = (ch X (sk X p) = 93) := mv_eq hX _ (c := 93) (by omega) (by omega)
    have t8 : gT (mm h (sk X p) (o + 1)) 1231 = 8 := hm.t
    rw [s209_268, gT_mm, if_pos hm.t, m185 hb1 (by omega), gc_v, s209_272, if_neg ne_1, gT_mm, if_pos hm.t, m187 hb1 (by omega) x1, gc_v, s209_279, wLp]
    by_cases c : ch X (sk X p) = 93
    · rw [if_pos c, if_pos (show mv X (sk X p) = 93 by rw [e93]; exact c)]
      exact ⟨h, rfl, z, g2, c, sk_sk x1⟩
    · rw [if_neg c, if_neg (show ¬ mv X (sk X p) = 93 by rw [e93]; exact c), if_pos t8]
      have y := hone d h (sk X p) (c0 + a.1.length) hd hb1 hS1 hE1 z.c g2 (by omega)
      have g := hg p x1
      rw [hsk p x1] at y
      revert y g
      rcases one p with ⟨kk, pl⟩ | ⟨p', b⟩
      · rintro ⟨h', e, me⟩ g
        have me0 := me.mz z.z0
        obtain ⟨h2, e2, me2⟩ := bad268 hb.1 me0 (by have := g.2; omega) (d := d) (by omega) v3 .null .null
        exact ⟨h2, by rw [e, gc_n, s209_288, e2], me2, g.2⟩
      · rintro ⟨h2, e, w⟩ ⟨g3, g4, g5⟩
        rw [e, gc_n, s209_288, qb_r]
        exact lp268 hone hg hsk h15 hd hd1 hb hS hE v3 f p' h2 (yAdd a b) .null .null (by omega) g4 (z.trans w) (by
          show 4 * (c0 + (a.1 ++ b.1).length) ≤ p'
          rw [List.length_append]
          have := g5.2
          omega)
theorem spMA {X : gdX} {E : gdE} {o dm : Nat} {one : Nat → gdQ gdY} (hdm : 6 ≤ dm) (hone : MYs X E (o + 1) one dm) (hg : ∀ p, p ≤ xn X → QG X p (YG E p) (one p)) (hsk : ∀ p, p ≤ xn X → one (sk X p) = one p) (h15 : xn X ≤ 150) : MAs X E o (wAg X one) dm := by
  intro d h p c hd hb hS hE hc hp hcp
  have hm := hb.1
  have hX : XO X := hb.2.2.2
  have t8 : ∀ q o, gT (mm h q o) 1231 = 8 := fun q o => hm.t
  have n := m195 hb (d := d) (by omega) hp (o + 1) (l := 0) (hs := 31) (by omega) (by omega) (hi := 30) (fun v hv => hi_lit (n := 30) (by omega) hv)
  have g := tN_g (X := X) (lo := 0) (hs := 31) hp
  rw [s209_241, if_pos (t8 _ _)]
  unfold wAg
  revert n g
  rcases tN X 0 31 p with ⟨kk, pl⟩ | ⟨p1, tm⟩
  · rintro ⟨h', e, me⟩ g
    have e : run gd_P0 d 195 [.ref 1231, .int 0, .int 30] (mm h p (o + 1)) = _ := e
    obtain ⟨h2, e2, me2⟩ := bad248 hm me (by have := g.2; omega) (d := d) (by omega) 0 .null .null .null
    exact ⟨h2, by rw [e, gc_v, e2], me2, g.2⟩
  intro e g
  have e : run gd_P0 d 195 [.ref 1231, .int 0, .int 30] (mm h p (o + 1)) = _ := e
  obtain ⟨a1, a2, a3, a4⟩ := g
  rw [e, gc_v, s209_248, if_pos (t8 _ _), qb_r]
  have m := m198 hb (d := d) (by omega) a2 (o + 1) (c := 91) (by omega) (by omega)
  have g := tS_g (X := X) (c := 91) (by decide) a2
  revert m g
  rcases tS X 91 p1 with ⟨kk, pl⟩ | ⟨p2, ⟨⟩⟩
  · rintro ⟨h', e, me⟩ g
    have e : run gd_P0 d 198 [.ref 1231, .int 91] (mm h p1 (o + 1)) = _ := e
    obtain ⟨h2, e2, me2⟩ := bad255 hm me (by have := g.2; omega) (d := d) (by omega) (Int32.ofNat tm) .null .null
    exact ⟨h2, by rw [e, gc_n, e2], me2, g.2⟩
  intro e g
  have e : run gd_P0 d 198 [.ref 1231, .int 91] (mm h p1 (o + 1)) = _ := e
  obtain ⟨b1, b2, -⟩ := g
  rw [e, gc_n, qb_r, s209_255, if_pos (t8 _ _), if_pos (t8 _ _), mm_j h p2 (o + 1) (by omega) (by omega), hc, m210 hb (by omega) p2 (o + 1) hc (by omega), gc_n]
  generalize eL : lyc h c 7 (Int32.ofNat tm) 0 = H
  have hbL : MB H X := by
    obtain ⟨x1, ⟨x3, x5⟩, xB, xO⟩ := hb
    rw [← eL]
    exact ⟨x1, ⟨(lay_j h c _ _ _ (by omega)).trans x3, (lay_j h c _ _ _ (by omega)).trans x5⟩, fun j hj => by rw [lay_b h c _ _ _ (by omega) (by omega)]; exact xB j hj, xO⟩
  have hSL : SK H := hS.cg fun b hb => by rw [← eL]; exact ⟨rfl, rfl, lay_b h c _ _ _ (by omega) (by omega)⟩
  have hEL : EM H E := by rw [← eL]; exact ⟨⟨(lay_j h c _ _ _ (by omega)).trans hE.1.1, (lay_j h c _ _ _ (by omega)).trans hE.1.2⟩, hE.2⟩
  have zL : MZ0 h H := by
    rw [← eL]
    exact ⟨⟨gI (lyc h c 7 (Int32.ofNat tm) 0), gJ h, rfl, fun b hb => lay_b h c _ _ _ (by unfold mper at hb; omega) (by unfold mper at hb; omega), fun j hj => lay_j h c _ _ _ (fun z => by rw [z] at hj; exact absurd hj (by decide)), fun _ _ => rfl⟩, lay_j h c _ _ _ (by omega)⟩
  have cL : gI H 1231 32 = Int32.ofNat (3 * (c + 1)) := by rw [← eL]; exact lay_32 h c _ _ _
  have L := lp268 hone hg hsk h15 hd (by omega) hbL hSL hEL (c0 := c + 1) (Int32.ofNat (3 * c)) (xn X + 1) p2 H y0 .null (.int (Int32.ofNat tm)) (by omega) b2 (VWc.refl cL) (by show 4 * (c + 1 + 0) ≤ p2; omega)
  have G := wLp_g (X := X) (en := 93) hg (p0 := p2) (xn X + 1) p2 y0 (by omega) (Nat.le_refl _) b2 ⟨by rw [wd]; exact Or.inl ⟨rfl, rfl⟩, by show 4 * 0 ≤ _; omega⟩
  revert L G
  rcases wLp X 93 one (xn X + 1) p2 y0 with ⟨kk, pl⟩ | ⟨p3, b⟩
  · rintro ⟨h', e', me, hpl⟩ -
    exact ⟨h', e', me.mz zL, hpl⟩
  · rintro ⟨h', e', w, c1, c2, c3⟩ ⟨-, -, ⟨-, G⟩, -⟩
    have hb3 := hbL.vw w
    have hm3 := hb3.1
    have p3lt := ch_lt (X := X) (q := p3) (by omega)
    have r := m198 hb3 (d := d) (by omega) c1 (o + 1) (c := 93) (by omega) (by omega)
    rw [tS_at c3 c2] at r
    have r : run gd_P0 d 198 [.ref 1231, .int 93] (mm h' p3 (o + 1)) = some (.inl none, mm h' (p3 + 1) (o + 1)) := r
    have q1 : Int32.ofNat (3 * c) + 2 = Int32.ofNat (3 * c + 2) := j_add (3 * c) 2
    have cl : ¬ (Int32.ofNat (3 * c + 2) < 0 ∨ 150 ≤ Int32.toNatClampNeg (Int32.ofNat (3 * c + 2))) := by rw [j_ix (by omega) (by omega)]; exact trivial
    have t8' : ∀ q o, gT (mm h' q o) 1231 = 8 := fun q o => hm3.t
    have i32 : gI (mm h' (p3 + 1) o) 1231 32 = Int32.ofNat (3 * (c + 1 + b.1.length)) := by rw [mm_j _ _ _ (by omega) (by omega)]; exact w.c
    rw [← eL] at w
    have W := agW w
    refine ⟨_, ?_, W, by omega⟩
    rw [e', s209_291, if_pos (t8' _ _), r, gc_n, s209_297, if_pos (t8' _ _), if_pos (t8' _ _), if_pos (t8' _ _), mm_7, j_dc, mm_w7, m185 hb3 (by omega), gc_v, s209_311, if_neg ne_1, if_pos (t8' _ _), if_pos (t8' _ _), gR_mm, gT_mm, gL_mm, m_r30 hm3, m_t30 hm3, m_l30 hm3, q1, if_pos ⟨rfl, cl⟩, j_cl (by omega), i32, mm_wa (Or.inl (by omega)), s209_326]
theorem spMn {X : gdX} {E : gdE} (h15 : xn X ≤ 150) : ∀ (m o : Nat), o + m = 6 → MYs X E o (wUn X E m) (7 + m)
  | 0, o, h => by
    rw [wUn_0]
    exact spM (E := E) (o := o) (dm := 6) (by omega) h15 (fun _ => by omega) (fun z => by cases z)
  | m + 1, o, h => by
    rw [wUn_s]
    exact spM (E := E) (o := o) (dm := 7 + m) (by omega) h15 (fun z => by cases z) (fun _ => ⟨by omega, spMA (by omega) (spMn h15 m (o + 1) (by omega)) (fun p hp => wUn_g m hp) (fun p hp => wUn_sk m hp) h15⟩)

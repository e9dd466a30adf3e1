/-! ===== CALLS THAT CHANGE THE DOOR: what they leave ===== -/
set_option maxRecDepth 100000
/-- what a call of the class leaves -/
def FX (h h' : gd_H) : Prop := (gS h ≤ gS h' ∧ gS h' ≤ gS h + 2000 ∧ gU h' ≤ gU h + 32000) ∧ ∀ b, b < 96 ∨ (1230 < b ∧ b ≤ 1264) → gT h' b = gT h b ∧ gL h' b = gL h b ∧ gI h' b = gI h b ∧ gR h' b = gR h b
/-- what a call of the model leaves -/
def FM (h h' : gd_H) : Prop := ∃ I' J', h' = wJ (wI h I') J' ∧ (∀ b, b ≤ 1230 ∨ 1263 < b → I' b = gI h b)
theorem XQ.fx {h h' : gd_H} (q : XQ h h') : FX h h' := by
  obtain ⟨I', J', R', rfl, hI, hI96, hJ, hR⟩ := q
  refine ⟨⟨Nat.le_refl _, by show gS h ≤ _; omega, by show gU h ≤ _; omega⟩, fun b hb => ⟨rfl, rfl, hI b (by unfold scr; omega) (by omega), funext fun j => hR b j (by omega) (by omega)⟩⟩
theorem MZ.fm {h h' : gd_H} (q : MZ h h') : FM h h' := by
  obtain ⟨I', J', rfl, hI, -, -⟩ := q
  exact ⟨I', J', rfl, fun b hb => hI b (by unfold mper; omega)⟩
theorem FM.trans {h1 h2 h3 : gd_H} (a : FM h1 h2) (b : FM h2 h3) : FM h1 h3 := by
  obtain ⟨I1, J1, rfl, a1⟩ := a
  obtain ⟨I2, J2, rfl, b1⟩ := b
  exact ⟨I2, J2, rfl, fun b h => (b1 b h).trans (a1 b h)⟩
theorem FM.wI (h : gd_H) (I' : Nat → Nat → Int32) (hI : ∀ b, b ≤ 1230 ∨ 1263 < b → I' b = gI h b) : FM h (wI h I') := ⟨I', gJ h, rfl, hI⟩
theorem SK.fx {h h' : gd_H} (hs : SK h) (f : FX h h') : SK h' := hs.cg fun b hb => by
  obtain ⟨x1, x2, x3, x4⟩ := f.2 b (by omega)
  exact ⟨x1, x2, x3⟩
theorem SK.fm {h h' : gd_H} (hs : SK h) (f : FM h h') : SK h' := by
  obtain ⟨I', J', rfl, hI⟩ := f
  exact hs.cg fun b hb => ⟨rfl, rfl, hI b (by omega)⟩
theorem MI.fx {h h' : gd_H} {D : gdD} (hi : MI h D) (f : FX h h') : MI h' D :=
  hi.cg (fun b h1 h2 => by
    obtain ⟨x1, x2, x3, x4⟩ := f.2 b (by omega)
    exact ⟨x1, x2, x3⟩) (f.2 1231 (by omega)).2.2.2
theorem XI.fm {h h' : gd_H} {D : gdD} (hi : XI h D) (q : FM h h') : XI h' D := by
  obtain ⟨I', J', rfl, hI⟩ := q
  have hI1 : ∀ b, b < 1231 ∨ 1263 < b → I' b = gI h b := fun b hb => hI b (by omega)
  obtain ⟨hg, ⟨σ, ⟨s1, s2, s3⟩, s4, s5, s6, s7⟩, ⟨w1, w2⟩, ⟨i1, i2, i3⟩, ⟨t1, t2, t3⟩, fa, ⟨b1, b2, b3, b4⟩, rs, ⟨r0, r1⟩, lw, sz⟩ := hi
  have xc : ∀ {a : Nat} {r : gdR}, a ≤ 1196 → XC (gI h) a σ (dE D) (-1) r → XC I' a σ (dE D) (-1) r := by
    intro a r ha hx
    have e0 := hI1 a (by omega)
    have e1 := hI1 (a + 1) (by omega)
    have e2 := hI1 (a + 2) (by omega)
    have e3 := hI1 (a + 3) (by omega)
    have e4 := hI1 (a + 4) (by omega)
    have e5 := hI1 (a + 5) (by omega)
    have e6 := hI1 (a + 6) (by omega)
    have g0 := hI1 σ (by omega)
    have g2 := hI1 (σ + 2) (by omega)
    have g5 := hI1 (σ + 5) (by omega)
    have g6 := hI1 (σ + 6) (by omega)
    unfold XC
    rw [e0, e1, e2, e3, e4, e5, e6, g0, g2, g5, g6]
    exact hx
  refine ⟨hg, ⟨σ, ⟨s1, s2, s3⟩, s4, fun k hk => ?_, fun k hk => ⟨(s6 k hk).1, xc (by omega) (s6 k hk).2⟩, fun i hi k hk => ⟨(s7 i hi k hk).1, xc (by have := i3 i hi; omega) (s7 i hi k hk).2⟩⟩, ⟨?_, w2⟩, ⟨?_, i2, fun i hi => ⟨?_, (i3 i hi).2⟩⟩, ⟨?_, t2, fun j hj => ?_⟩, ?_, ⟨?_, b2, fun k hk => ?_, fun m m1 m2 m3 => ?_⟩, ?_, ⟨?_, ?_⟩, ?_, sz⟩
  · show I' (σ + 1) k = _
    rw [hI1 _ (by omega)]; exact s5 k hk
  · show I' 99 1 = _
    rw [hI1 _ (by omega)]; exact w1
  · show I' 96 20 = _
    rw [hI1 _ (by omega)]; exact i1
  · show I' (374 + 274 * i) 1 = _
    rw [hI1 _ (by omega)]; exact (i3 i hi).1
  · show I' 96 16 = _
    rw [hI1 _ (by omega)]; exact t1
  · show I' 97 j &&& 255 = _
    rw [hI1 _ (by omega)]; exact t3 j hj
  · show I' 96 17 = _
    rw [hI1 _ (by omega)]; exact fa
  · show I' 96 18 = _
    rw [hI1 _ (by omega)]; exact b1
  · show ∃ m, 1 ≤ m ∧ m ≤ 12 ∧ I' 1217 k = _ ∧ I' 1218 k = _ ∧ _
    rw [hI1 1217 (by omega), hI1 1218 (by omega)]
    exact b3 k hk
  · show ∃ k, k < dNb D ∧ I' 1217 k = _
    rw [hI1 1217 (by omega)]
    exact b4 m m1 m2 m3
  · show I' 96 19 = _
    rw [hI1 _ (by omega)]; exact rs
  · show I' 1216 0 = _
    rw [hI1 _ (by omega)]; exact r0
  · show I' 1216 1 = _
    rw [hI1 _ (by omega)]; exact r1
  · exact lw.kp (Kp.wI (fun b hb => hI1 b (by omega))) rfl rfl
/-- the class's cells under other heaps -/
theorem SA.al {h h' : gd_H} {a : Nat} (hs : SA h a) (hc : ∀ b, b ≤ 1264 → gT h' b = gT h b ∧ gL h' b = gL h b ∧ (b ≠ 98 → gR h' b = gR h b)) : SA h' a := by
  obtain ⟨⟨x0, x1⟩, hs⟩ := id hs
  have e := fun k (hk : k ≤ 8) => hc (a + k) (by omega)
  unfold SA
  rw [(hc a (by omega)).1, (hc a (by omega)).2.2 (by omega), (hc 98 (by omega)).1, (e 1 (by omega)).1, (e 1 (by omega)).2.1, (e 2 (by omega)).1, (e 2 (by omega)).2.1, (e 3 (by omega)).1, (e 3 (by omega)).2.1, (e 4 (by omega)).1, (e 4 (by omega)).2.1, (e 5 (by omega)).1, (e 5 (by omega)).2.1, (e 6 (by omega)).1, (e 6 (by omega)).2.1, (e 7 (by omega)).1, (e 7 (by omega)).2.1, (e 8 (by omega)).1]
  exact ⟨⟨x0, x1⟩, hs⟩
theorem XG.al {h h' : gd_H} (hg : XG h) (hc : ∀ b, b ≤ 1264 → gT h' b = gT h b ∧ gL h' b = gL h b ∧ (b ≠ 98 → gR h' b = gR h b)) : XG h' := by
  obtain ⟨g1, g2, g3, g4, g5, g6, g7, g8, g9, g10⟩ := hg
  have hb1 : ∀ e ∈ xgT, e.2.1 ≤ 1264 := by decide
  have hb2 : ∀ e ∈ xgL, e.1 ≤ 1264 := by decide
  refine ⟨(hc 96 (by omega)).1.trans g1, fun e he => ?_, fun e he => ?_, ?_, fun k hk => ?_, fun i hi => ?_, ?_, fun k hk => (g8 k hk).al hc, fun i hi k hk => (g9 i hi k hk).al hc, g10.al hc⟩
  · rw [(hc 96 (by omega)).2.2 (by omega), (hc e.2.1 (hb1 e he)).1]; exact g2 e he
  · rw [(hc e.1 (hb2 e he)).2.1]; exact g3 e he
  · rw [(hc 99 (by omega)).2.2 (by omega), (hc 100 (by omega)).1, (hc 100 (by omega)).2.1]; exact g4
  · rw [(hc 100 (by omega)).2.2 (by omega)]; exact g5 k hk
  · rw [(hc 373 (by omega)).2.2 (by omega), (hc (374 + 274 * i) (by omega)).1, (hc (374 + 274 * i) (by omega)).2.2 (by omega), (hc (375 + 274 * i) (by omega)).1, (hc (375 + 274 * i) (by omega)).2.1, (hc (375 + 274 * i) (by omega)).2.2 (by omega)]; exact g6 i hi
  · rw [(hc 1212 (by omega)).2.2 (by omega), (hc 1213 (by omega)).1, (hc 1213 (by omega)).2.1, (hc 1214 (by omega)).1, (hc 1214 (by omega)).2.1]; exact g7
/-- more cells; all stands but the tape's count and the fault's place -/
def Kx (c : Nat) (h h' : gd_H) : Prop := (gS h ≤ gS h' ∧ gS h' ≤ gS h + c ∧ gU h' ≤ gU h + 16 * c) ∧ (∀ b, b < gS h → gT h' b = gT h b ∧ gL h' b = gL h b ∧ gR h' b = gR h b ∧ (b ≠ 96 → gI h' b = gI h b)) ∧ ∀ j, j ≠ 16 → j ≠ 17 → gI h' 96 j = gI h 96 j
theorem Kx.ke {c c1 c2 : Nat} {h h1 h2 : gd_H} (a : Kx c1 h h1) (b : Ke c2 h1 h2) (hz : 96 < gS h) (hc : c1 + c2 ≤ c) : Kx c h h2 ∧ gI h2 96 = gI h1 96 := by
  obtain ⟨⟨a1, a2, a3⟩, a4, a5⟩ := a
  obtain ⟨⟨b1, b2, b3⟩, b4⟩ := b
  refine ⟨⟨⟨by omega, by omega, by omega⟩, fun x hx => ?_, fun j h1 h2 => ?_⟩, ?_⟩
  · obtain ⟨x1, x2, x3, x4⟩ := a4 x hx
    obtain ⟨y1, y2, y3, y4⟩ := b4 x (by omega)
    exact ⟨y1.trans x1, y2.trans x2, y4.trans x3, fun z => y3.trans (x4 z)⟩
  · rw [(b4 96 (by omega)).2.2.1]; exact a5 j h1 h2
  · exact (b4 96 (by omega)).2.2.1
theorem Kx.kr {ρ c c1 c2 : Nat} {h h1 h2 : gd_H} (a : Kx c1 h h1) (b : Kr ρ c2 h1 h2) (hz : 96 < gS h) (hρ : gS h ≤ ρ) (hc : c1 + c2 ≤ c) : Kx c h h2 ∧ gI h2 96 = gI h1 96 := by
  obtain ⟨⟨a1, a2, a3⟩, a4, a5⟩ := a
  obtain ⟨⟨b1, b2, b3⟩, b4⟩ := b
  refine ⟨⟨⟨by omega, by omega, by omega⟩, fun x hx => ?_, fun j h1 h2 => ?_⟩, ?_⟩
  · obtain ⟨x1, x2, x3, x4⟩ := a4 x hx
    obtain ⟨y1, y2, y3, y4⟩ := b4 x (by omega)
    exact ⟨y1.trans x1, y2.trans x2, y4.trans x3, fun z => y3.trans (x4 z)⟩
  · rw [(b4 96 (by omega)).2.2.1]; exact a5 j h1 h2
  · exact (b4 96 (by omega)).2.2.1
/-- the tape is empty; the fault's place -/
def dF0 (D : gdD) (fa : Int32) : gdD := (D.1, D.2.1, D.2.2.1, D.2.2.2.1, (0, dTp D), fa, D.2.2.2.2.2.2)
theorem DI.f0 {D : gdD} (hD : DI D) (fa : Int32) : DI (dF0 D fa) := ⟨hD.1, hD.2.1, hD.2.2.1, fun j hj => absurd hj (Nat.not_lt_zero j)⟩
theorem Kx.fx {c : Nat} {h h' : gd_H} (k : Kx c h h') (hz : 1264 < gS h) (hc : c ≤ 2000) : FX h h' := by
  refine ⟨⟨k.1.1, by have := k.1.2.1; omega, by have := k.1.2.2; omega⟩, fun b hb => ?_⟩
  obtain ⟨x1, x2, x3, x4⟩ := k.2.1 b (by omega)
  exact ⟨x1, x2, x4 (by omega), x3⟩
theorem XC.eq {I I' : Nat → Nat → Int32} {a σ : Nat} {E : gdE} {al : Int32} {r : gdR} (hx : XC I a σ E al r) (h1 : ∀ b, (a ≤ b ∧ b ≤ a + 6) ∨ (σ ≤ b ∧ b ≤ σ + 6) → I' b = I b) : XC I' a σ E al r := by
  have e0 := h1 a (by omega)
  have e1 := h1 (a + 1) (by omega)
  have e2 := h1 (a + 2) (by omega)
  have e3 := h1 (a + 3) (by omega)
  have e4 := h1 (a + 4) (by omega)
  have e5 := h1 (a + 5) (by omega)
  have e6 := h1 (a + 6) (by omega)
  have g0 := h1 σ (by omega)
  have g2 := h1 (σ + 2) (by omega)
  have g5 := h1 (σ + 5) (by omega)
  have g6 := h1 (σ + 6) (by omega)
  unfold XC
  rw [e0, e1, e2, e3, e4, e5, e6, g0, g2, g5, g6]
  exact hx
theorem XI.kx {c : Nat} {h h' : gd_H} {D : gdD} (hi : XI h D) (k : Kx c h h') (f0 : gI h' 96 16 = 0) : XI h' (dF0 D (gI h' 96 17)) := by
  obtain ⟨⟨z1, z2, z3⟩, kc, k96⟩ := k
  obtain ⟨hg, ⟨σ, ⟨s1, s2, s3⟩, s4, s5, s6, s7⟩, ⟨w1, w2⟩, ⟨i1, i2, i3⟩, ⟨t1, t2, t3⟩, fa, ⟨b1, b2, b3, b4⟩, rs, ⟨r0, r1⟩, lw, sz⟩ := hi
  have hI : ∀ b, b < gS h → b ≠ 96 → gI h' b = gI h b := fun b h1 h2 => (kc b h1).2.2.2 h2
  have hR : ∀ b, b < gS h → gR h' b = gR h b := fun b h1 => (kc b h1).2.2.1
  have xc : ∀ {a : Nat} {r : gdR}, 96 < a → a ≤ 1196 → XC (gI h) a σ (dE D) (-1) r → XC (gI h') a σ (dE D) (-1) r := fun ha1 ha2 hx => hx.eq fun b hb => hI b (by omega) (by omega)
  refine ⟨hg.al fun b hb => ⟨(kc b (by omega)).1, (kc b (by omega)).2.1, fun _ => hR b (by omega)⟩, ⟨σ, ⟨by rw [hR 96 (by omega)]; exact s1, s2, by omega⟩, s4.cg (fun b h1 h2 => ⟨(kc b (by omega)).1, (kc b (by omega)).2.1⟩) (fun j => by rw [hR σ (by omega)]), fun k hk => ?_, fun k hk => ⟨?_, xc (by omega) (by have hk : k ≤ dW D := hk; omega) (s6 k hk).2⟩, fun i hi k hk => ⟨?_, xc (by omega) (by have := i3 i hi; have hi : i < dNi D := hi; have hk : k ≤ dIw D i := hk; omega) (s7 i hi k hk).2⟩⟩, ⟨?_, w2⟩, ⟨?_, i2, fun i hi => ⟨?_, (i3 i hi).2⟩⟩, ⟨f0, Nat.zero_le _, fun j hj => absurd hj (Nat.not_lt_zero j)⟩, rfl, ⟨?_, b2, fun k hk => ?_, fun m m1 m2 m3 => ?_⟩, ?_, ⟨?_, ?_⟩, ?_, by omega⟩
  · rw [hI (σ + 1) (by omega) (by omega)]; exact s5 k hk
  · have hk : k ≤ dW D := hk
    rw [hR _ (by omega)]; exact (s6 k hk).1
  · have := i3 i hi
    have hi : i < dNi D := hi
    have hk : k ≤ dIw D i := hk
    rw [hR _ (by omega)]; exact (s7 i hi k hk).1
  · rw [hI 99 (by omega) (by omega)]; exact w1
  · rw [k96 20 (by omega) (by omega)]; exact i1
  · have := i3 i hi
    have hi : i < dNi D := hi
    rw [hI _ (by omega) (by omega)]; exact (i3 i hi).1
  · rw [k96 18 (by omega) (by omega)]; exact b1
  · rw [hI 1217 (by omega) (by omega), hI 1218 (by omega) (by omega)]; exact b3 k hk
  · rw [hI 1217 (by omega) (by omega)]; exact b4 m m1 m2 m3
  · rw [k96 19 (by omega) (by omega)]; exact rs
  · rw [hI 1216 (by omega) (by omega)]; exact r0
  · rw [hI 1216 (by omega) (by omega)]; exact r1
  · exact lw.kp ⟨z1, fun b hb h2 => ⟨(kc b h2).1, (kc b h2).2.1, hI b h2 (by omega), hR b h2⟩⟩ (kc 98 (by omega)).1 (by rw [hR 98 (by omega)])
/-- calls: what they answer, what the door is then -/
def XDo (k : Nat) (as : List Value) (D : gdD) (v : Value) (D' : gdD) : Prop := ∀ (d : Nat) (h : gd_H), 800 ≤ d → XI h D → DI D → SK h → ∃ h', run gd_P0 d k (.ref 96 :: as) h = some (.inl (some v), h') ∧ XI h' D' ∧ FX h h'
def MDo (k : Nat) (as : List Value) (D : gdD) (v : Value) (D' : gdD) : Prop := ∀ (d : Nat) (h : gd_H), 800 ≤ d → MI h D → DI D → SK h → ∃ h', run gd_P0 d k (.ref 1231 :: as) h = some (.inl (some v), h') ∧ MI h' D' ∧ FM h h' ∧ gI h' 1231 0 = 0
/-! a reader is made -/
def txt (D : gdD) (n : Nat) : gdX := (n, fun j => (dTp D j).toNatClampNeg)
theorem txt_o {D : gdD} (hD : DI D) {n : Nat} (hn : n ≤ dFed D) (h6 : dFed D ≤ 600) : XO (txt D n) := by
  refine ⟨by show n ≤ 600; omega, fun j hj => ?_⟩
  have hj : j < n := hj
  obtain ⟨v, hv, e⟩ := hD.2.2.2 j (by omega)
  show (dTp D j).toNatClampNeg ≤ 255
  rw [e, j_cl (by omega)]
  exact hv
theorem txt_b {D : gdD} (hD : DI D) {n : Nat} (hn : n ≤ dFed D) {j : Nat} (hj : j < n) : dTp D j = Int32.ofNat (xb (txt D n) j) := by
  obtain ⟨v, hv, e⟩ := hD.2.2.2 j (by omega)
  show dTp D j = Int32.ofNat (dTp D j).toNatClampNeg
  rw [e, j_cl (by omega)]
theorem rz_self {h : gd_H} {ρ p o : Nat} (h2 : gI h ρ 2 = Int32.ofNat p) (h3 : gI h ρ 3 = Int32.ofNat o) : rz h ρ p o = h := by
  unfold rz
  have : up1 (up1 (gI h) ρ 2 (Int32.ofNat p)) ρ 3 (Int32.ofNat o) = gI h := by
    funext b j
    simp only [up1]
    by_cases z : b = ρ ∧ j = 3
    · rw [if_pos z, z.1, z.2, h3]
    · rw [if_neg z]
      by_cases z2 : b = ρ ∧ j = 2
      · rw [if_pos z2, z2.1, z2.2, h2]
      · rw [if_neg z2]
  rw [this, wI_self]
/-- the reader of a text; h: more cells than h0, where the tape stands -/
theorem sp54 {h0 h : gd_H} {c : Nat} {D : gdD} (hi : XI h0 D) (hD : DI D) (k : Ke c h0 h) {n : Nat} (hn : n ≤ dFed D) {d : Nat} (hd : 2 ≤ d) : ∃ h', run gd_P0 d 54 [.ref 96, .int (Int32.ofNat n)] h = some (.inl (some (.ref (gS h))), rz h' (gS h) 0 0) ∧ Kx (c + 1) h0 h' ∧ gS h' = gS h + 1 ∧ (gI h' 96 16 = 0 ∧ gI h' 96 17 = -1) ∧ RB h' (gS h) (txt D n) ∧ ∀ b, b < gS h → gT h' b = gT h b ∧ gL h' b = gL h b ∧ gR h' b = gR h b ∧ (b ≠ 96 → gI h' b = gI h b) := by
  obtain ⟨d, rfl⟩ : ∃ e, d = e + 1 := ⟨d - 1, by omega⟩
  obtain ⟨hg, -, -, -, ⟨t1, t2, t3⟩, -, -, -, -, -, sz⟩ := id hi
  have zs := k.1.1
  have o96 := k.2 96 (by omega)
  have o97 := k.2 97 (by omega)
  have T96 : gT h 96 = 1 := o96.1.trans hg.1
  have R96 : gR h 96 0 = 97 := by rw [o96.2.2.2]; exact x_r0 hg
  have z96 : (96 : Nat) ≠ gS h := by omega
  have z97 : (97 : Nat) ≠ gS h := by omega
  have hX := txt_o hD hn t2
  -- the heaps
  generalize eh1 : wI h (up1 (up1 (gI h) 96 16 0) 96 17 (-1)) = h1
  have S1 : gS h1 = gS h := by rw [← eh1]; rfl
  have c0 : (0 : Nat) < 4 := by omega
  generalize eh2 : wR (wI (nw h1 10 0 4) (up1 (gI (nw h1 10 0 4)) (gS h) 1 (Int32.ofNat n))) (up1 (gR (nw h1 10 0 4)) (gS h) 0 97) = h2
  have oT : ∀ b, b < gS h → gT h2 b = gT h b ∧ gL h2 b = gL h b ∧ gR h2 b = gR h b := by
    intro b hb
    have z : b ≠ gS h1 := by omega
    rw [← eh2]
    refine ⟨?_, ?_, ?_⟩
    · show gT (nw h1 10 0 4) b = _; rw [gT_nw, if_neg z, ← eh1]; rfl
    · show gL (nw h1 10 0 4) b = _; rw [gL_nw, if_neg z, ← eh1]; rfl
    · show up1 (gR (nw h1 10 0 4)) (gS h) 0 97 b = _
      rw [up1_nc _ _ _ (by omega)]
      funext j
      rw [gR_nw, if_neg z, ← eh1]; rfl
  have oI : ∀ b, b < gS h → gI h2 b = up1 (up1 (gI h) 96 16 0) 96 17 (-1) b := by
    intro b hb
    have z : b ≠ gS h1 := by omega
    rw [← eh2]
    show up1 (gI (nw h1 10 0 4)) (gS h) 1 _ b = _
    rw [up1_nc _ _ _ (by omega)]
    funext j
    rw [gI_nw, if_neg z, ← eh1]; rfl
  have nI1 : ∀ j, j ≠ 1 → gI h2 (gS h) j = 0 := by
    intro j hj
    rw [← eh2]
    show up1 (gI (nw h1 10 0 4)) (gS h) 1 _ (gS h) j = _
    rw [up1_nj _ _ hj, gI_nw, if_pos S1.symm]
  have e96 : run gd_P0 d 96 [.ref (gS h), .ref 97, .int (Int32.ofNat n)] (nw h1 10 0 4) = some (.inl none, h2) := by
    obtain ⟨d, rfl⟩ : ∃ e, d = e + 1 := ⟨d - 1, by omega⟩
    have t : gT (nw h1 10 0 4) (gS h) = 10 := by rw [gT_nw, if_pos S1.symm]
    rw [r96, s96_0, if_pos (by omega), s96_4, if_pos t, if_pos t, eh2]
  refine ⟨h2, ?_, ⟨⟨?_, ?_, ?_⟩, fun b hb => ?_, fun j j1 j2 => ?_⟩, ?_, ⟨?_, ?_⟩, ?_, fun b hb => ⟨(oT b hb).1, (oT b hb).2.1, (oT b hb).2.2, fun z => by rw [oI b hb, up1_nc _ _ _ z, up1_nc _ _ _ z]⟩⟩
  · rw [rz_self (nI1 2 (by omega)) (nI1 3 (by omega)), r54, s54_0, if_pos T96, if_pos T96, eh1]
    have ta : gT (nw h1 10 0 4) 96 = 1 := by rw [gT_nw, if_neg (by omega), ← eh1]; exact T96
    have tb : gT (nw h1 10 0 4) (gS h) = 10 := by rw [gT_nw, if_pos S1.symm]
    have rc : gR (nw h1 10 0 4) 96 0 = 97 := by rw [gR_nw, if_neg (by omega), ← eh1]; exact R96
    rw [if_pos ta, if_pos tb, rc, e96, gc_n, s54_22]
  · rw [← eh2]; show gS h0 ≤ gS h1 + 1; omega
  · rw [← eh2]; show gS h1 + 1 ≤ _; have := k.1.2.1; omega
  · rw [← eh2, ← eh1]; show gU h + 4 ≤ _; have := k.1.2.2; omega
  · obtain ⟨x1, x2, x3, x4⟩ := k.2 b hb
    obtain ⟨y1, y2, y3⟩ := oT b (by omega)
    exact ⟨y1.trans x1, y2.trans x2, y3.trans x4, fun z => by rw [oI b (by omega), up1_nc _ _ _ z, up1_nc _ _ _ z]; exact x3⟩
  · rw [oI 96 (by omega), up1_nj _ _ j2, up1_nj _ _ j1, o96.2.2.1]
  · rw [← eh2]; show gS h1 + 1 = _; omega
  · rw [oI 96 (by omega), up1_nj _ _ (by omega), up1_eq]
  · rw [oI 96 (by omega), up1_eq]
  · refine ⟨⟨?_, ?_, ?_, ?_⟩, ?_, fun j hj => ?_, ⟨by omega, ?_⟩, hX⟩
    · rw [← eh2]; show gT (nw h1 10 0 4) (gS h) = _; rw [gT_nw, if_pos S1.symm]
    · rw [← eh2]; show up1 (gR (nw h1 10 0 4)) (gS h) 0 97 (gS h) 0 = _; rw [up1_eq]
    · rw [(oT 97 (by omega)).1, o97.1]; exact x_t0 hg
    · rw [(oT 97 (by omega)).2.1, o97.2.1]; exact x_l0 hg
    · rw [← eh2]; show up1 (gI (nw h1 10 0 4)) (gS h) 1 _ (gS h) 1 = _; rw [up1_eq]; rfl
    · have hj : j < n := hj
      rw [oI 97 (by omega), up1_nc _ _ _ (by omega), up1_nc _ _ _ (by omega), o97.2.2.1, t3 j (by omega)]
      exact txt_b hD hn hj
    · rw [← eh2]; show gS h < gS h1 + 1; omega

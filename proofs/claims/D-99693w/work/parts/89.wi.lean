/-! ===== THE CALL work: what it leaves ===== -/
set_option maxRecDepth 100000
/-- one more row -/
def dK (D : gdD) (r : gdR) (v : Int32) : gdD := (D.1, (fun k => if k = dW D + 1 then r else dRow D k), dW D + 1, D.2.2.2.1, (0, dTp D), -1, D.2.2.2.2.2.2.1, v, D.2.2.2.2.2.2.2.2)
theorem DI.k {D : gdD} (hD : DI D) {r : gdR} (hr : RJ (dE D) r) (v : Int32) : DI (dK D r v) := by
  refine ⟨hD.1, fun k hk => ?_, hD.2.2.1, fun j hj => absurd hj (Nat.not_lt_zero j)⟩
  have hk : k ≤ dW D + 1 := hk
  show RJ (dE D) (if k = dW D + 1 then r else dRow D k)
  by_cases z : k = dW D + 1
  · rw [if_pos z]; exact hr
  · rw [if_neg z]; exact hD.2.1 k (by omega)
def WD (D : gdD) : gdQ gdY → Value × gdD
  | .inl (k, pl) => (.int (Int32.ofNat k - 10), dF0 D (Int32.ofNat pl))
  | .inr (_, b) => (.int (Int32.ofNat (b.2 (dNow D, 0, 0, 0)).2.2.1), dK D (b.2 (dNow D, 0, 0, 0)).1 (Int32.ofNat (b.2 (dNow D, 0, 0, 0)).2.2.2))
/-- work's answer and what is then -/
def WDo (D : gdD) (n : Nat) : Value × gdD := if dW D = 16 then (.int (-20), dF0 D (-1)) else WD D (wWork (txt D n) (dE D))
theorem XI.work {h F : gd_H} {D : gdD} {r : gdR} {v : Int32} (hi : XI h D) (hw : dW D < 16) (hS : gS h ≤ gS F) (hT : ∀ b, b < gS h → gT F b = gT h b ∧ gL F b = gL h b) (hR : ∀ b j, b < gS h → ¬ (b = 101 + 16 * (dW D + 1) ∧ j = 9) → gR F b j = gR h b j) (hI : ∀ b, b < gS h → b ≠ 96 → b ≠ 99 → (b < 101 + 16 * (dW D + 1) ∨ 101 + 16 * (dW D + 1) + 8 < b) → gI F b = gI h b) (h96 : ∀ j, j ≠ 16 → j ≠ 17 → j ≠ 19 → gI F 96 j = gI h 96 j) (f16 : gI F 96 16 = 0) (f17 : gI F 96 17 = -1) (f19 : gI F 96 19 = v) (i99 : gI F 99 1 = Int32.ofNat (dW D + 1)) (r9 : gR F (101 + 16 * (dW D + 1)) 9 = gR h 96 15) (xc : XC (gI F) (101 + 16 * (dW D + 1)) (gR h 96 15) (dE D) (-1) r) : XI F (dK D r v) := by
  obtain ⟨hg, ⟨σ, ⟨s1, s2, s3⟩, s4, s5, s6, s7⟩, ⟨w1, w2⟩, ⟨i1, i2, i3⟩, ⟨t1, t2, t3⟩, fa, ⟨b1, b2, b3, b4⟩, rs, ⟨r0, r1⟩, lw, sz⟩ := hi
  rw [s1] at r9 xc
  have σ12 : 1223 < σ := s4.1
  refine ⟨hg.al3 (fun b hb => hT b (by omega)) (fun b j b1 b2 b3 b4 => hR b j (by omega) (fun z => b4 ⟨z.2, by rw [z.1]; exact Or.inl ⟨dW D + 1, by omega, rfl⟩⟩)), ⟨σ, ⟨by rw [hR 96 15 (by omega) (by omega)]; exact s1, s2, by omega⟩, s4.cg (fun b h1 h2 => hT b (by omega)) (fun j => hR σ j (by omega) (by omega)), fun k hk => ?_, fun k hk => ?_, fun i hi k hk => ?_⟩, ⟨i99, by show dW D + 1 ≤ 16; omega⟩, ⟨?_, i2, fun i hi => ⟨?_, (i3 i hi).2⟩⟩, ⟨f16, Nat.zero_le _, fun j hj => absurd hj (Nat.not_lt_zero j)⟩, f17, ⟨?_, b2, fun k hk => ?_, fun m m1 m2 m3 => ?_⟩, f19, ⟨?_, ?_⟩, ?_, by omega⟩
  · rw [hI (σ + 1) (by omega) (by omega) (by omega) (by omega)]; exact s5 k hk
  · have hk : k ≤ dW D + 1 := hk
    show _ ∧ XC (gI F) (101 + 16 * k) σ (dE D) (-1) (if k = dW D + 1 then r else dRow D k)
    by_cases z : k = dW D + 1
    · rw [if_pos z, z]; exact ⟨r9, xc⟩
    · rw [if_neg z, hR (101 + 16 * k) 9 (by omega) (by omega)]
      exact ⟨(s6 k (by omega)).1, (s6 k (by omega)).2.eq fun b hb => hI b (by omega) (by omega) (by omega) (by omega)⟩
  · have := i3 i hi
    have hi : i < dNi D := hi
    have hk : k ≤ dIw D i := hk
    show _ ∧ XC (gI F) (376 + 274 * i + 16 * k) σ (dE D) (-1) (dIr D i k)
    rw [hR (376 + 274 * i + 16 * k) 9 (by omega) (by omega)]
    exact ⟨(s7 i hi k hk).1, (s7 i hi k hk).2.eq fun b hb => hI b (by omega) (by omega) (by omega) (by omega)⟩
  · rw [h96 20 (by omega) (by omega) (by omega)]; exact i1
  · have := i3 i hi
    have hi : i < dNi D := hi
    rw [hI _ (by omega) (by omega) (by omega) (by omega)]; exact (i3 i hi).1
  · rw [h96 18 (by omega) (by omega) (by omega)]; exact b1
  · rw [hI 1217 (by omega) (by omega) (by omega) (by omega), hI 1218 (by omega) (by omega) (by omega) (by omega)]; exact b3 k hk
  · rw [hI 1217 (by omega) (by omega) (by omega) (by omega)]; exact b4 m m1 m2 m3
  · rw [hI 1216 (by omega) (by omega) (by omega) (by omega)]; exact r0
  · rw [hI 1216 (by omega) (by omega) (by omega) (by omega)]; exact r1
  · exact lw.kp ⟨hS, fun b hb h2 => ⟨(hT b h2).1, (hT b h2).2, hI b h2 (by omega) (by omega) (by omega), funext fun j => hR b j h2 (by omega)⟩⟩ (hT 98 (by omega)).1 (hR 98 0 (by omega) (by omega))
theorem FX.work {h F : gd_H} {w : Nat} (hw : w ≤ 16) (sz : 1264 < gS h) (hS : gS h ≤ gS F ∧ gS F ≤ gS h + 2000 ∧ gU F ≤ gU h + 32000) (hT : ∀ b, b < gS h → gT F b = gT h b ∧ gL F b = gL h b) (hR : ∀ b j, b < gS h → ¬ (b = 101 + 16 * w ∧ j = 9) → gR F b j = gR h b j) (hI : ∀ b, b < gS h → b ≠ 96 → b ≠ 99 → (b < 101 + 16 * w ∨ 101 + 16 * w + 8 < b) → gI F b = gI h b) : FX h F := by
  refine ⟨hS, fun b hb => ?_⟩
  have hb2 : b < gS h := by omega
  exact ⟨(hT b hb2).1, (hT b hb2).2, hI b hb2 (by omega) (by omega) (by omega), funext fun j => hR b j hb2 (by omega)⟩
/-- the work's reader is made -/
theorem sp123 {H : gd_H} (hs : SK H) (hz : 96 ≤ gS H) {κ : Nat} (ht : gT H κ = 16) (hl : 96 ≤ κ) (hl2 : κ < gS H) (ρ σ : Nat) {d : Nat} (hd : 1 ≤ d) : ∃ R', run gd_P0 d 123 [.ref κ, .ref ρ, .ref σ] H = some (.inl none, wR (nw H 38 8 8) R') ∧ (∀ b, b ≠ gS H → b ≠ κ → R' b = gR H b) ∧ (R' κ 0 = gS H ∧ R' κ 1 = ρ ∧ R' κ 2 = σ ∧ ∀ i, i < 8 → R' (gS H) i = 8 + 2 * (14 + i)) := by
  obtain ⟨d, rfl⟩ : ∃ e, d = e + 1 := ⟨d - 1, by omega⟩
  have z : κ ≠ gS H := by omega
  have z2 : gS H ≠ κ := by omega
  have g0 : gT (nw H 38 8 8) (gS H) = 38 ∧ ((gT (nw H 38 8 8) 36 = 23 ∧ 36 < 96) ∧ ¬ ((0 : Int32) < 0 ∨ gL (nw H 38 8 8) (gS H) ≤ Int32.toNatClampNeg (0 : Int32))) := wg hs hz 8 (j := 14) (i := 0) (by omega) (by omega) (by omega)
  have g1 : gT (nw H 38 8 8) (gS H) = 38 ∧ ((gT (nw H 38 8 8) 38 = 23 ∧ 38 < 96) ∧ ¬ ((1 : Int32) < 0 ∨ gL (nw H 38 8 8) (gS H) ≤ Int32.toNatClampNeg (1 : Int32))) := wg hs hz 8 (j := 15) (i := 1) (by omega) (by omega) (by omega)
  have g2 : gT (nw H 38 8 8) (gS H) = 38 ∧ ((gT (nw H 38 8 8) 40 = 23 ∧ 40 < 96) ∧ ¬ ((2 : Int32) < 0 ∨ gL (nw H 38 8 8) (gS H) ≤ Int32.toNatClampNeg (2 : Int32))) := wg hs hz 8 (j := 16) (i := 2) (by omega) (by omega) (by omega)
  have g3 : gT (nw H 38 8 8) (gS H) = 38 ∧ ((gT (nw H 38 8 8) 42 = 23 ∧ 42 < 96) ∧ ¬ ((3 : Int32) < 0 ∨ gL (nw H 38 8 8) (gS H) ≤ Int32.toNatClampNeg (3 : Int32))) := wg hs hz 8 (j := 17) (i := 3) (by omega) (by omega) (by omega)
  have g4 : gT (nw H 38 8 8) (gS H) = 38 ∧ ((gT (nw H 38 8 8) 44 = 23 ∧ 44 < 96) ∧ ¬ ((4 : Int32) < 0 ∨ gL (nw H 38 8 8) (gS H) ≤ Int32.toNatClampNeg (4 : Int32))) := wg hs hz 8 (j := 18) (i := 4) (by omega) (by omega) (by omega)
  have g5 : gT (nw H 38 8 8) (gS H) = 38 ∧ ((gT (nw H 38 8 8) 46 = 23 ∧ 46 < 96) ∧ ¬ ((5 : Int32) < 0 ∨ gL (nw H 38 8 8) (gS H) ≤ Int32.toNatClampNeg (5 : Int32))) := wg hs hz 8 (j := 19) (i := 5) (by omega) (by omega) (by omega)
  have g6 : gT (nw H 38 8 8) (gS H) = 38 ∧ ((gT (nw H 38 8 8) 48 = 23 ∧ 48 < 96) ∧ ¬ ((6 : Int32) < 0 ∨ gL (nw H 38 8 8) (gS H) ≤ Int32.toNatClampNeg (6 : Int32))) := wg hs hz 8 (j := 20) (i := 6) (by omega) (by omega) (by omega)
  have g7 : gT (nw H 38 8 8) (gS H) = 38 ∧ ((gT (nw H 38 8 8) 50 = 23 ∧ 50 < 96) ∧ ¬ ((7 : Int32) < 0 ∨ gL (nw H 38 8 8) (gS H) ≤ Int32.toNatClampNeg (7 : Int32))) := wg hs hz 8 (j := 21) (i := 7) (by omega) (by omega) (by omega)
  have gl : gT (nw H 38 8 8) κ = 16 := by rw [gT_nw, if_neg z]; exact ht
  refine ⟨?zw, ?za, ?zb⟩
  case za => rw [r123, s123_0, if_pos (by omega), s123_4, show Int32.toNatClampNeg 8 = 8 from rfl, if_pos g0, if_pos g1, if_pos g2, if_pos g3, if_pos g4, if_pos g5, if_pos g6, if_pos g7, if_pos gl, if_pos gl, if_pos gl]
  refine ⟨fun b b1 b2 => ?_, ?_, ?_, ?_, fun i hi => ?_⟩
  · rw [up1_nc _ _ _ b2, up1_nc _ _ _ b2, up1_nc _ _ _ b2, up1_nc _ _ _ b1, up1_nc _ _ _ b1, up1_nc _ _ _ b1, up1_nc _ _ _ b1, up1_nc _ _ _ b1, up1_nc _ _ _ b1, up1_nc _ _ _ b1, up1_nc _ _ _ b1]
    funext j
    rw [gR_nw, if_neg b1]
  · simp [up1]
  · simp [up1]
  · simp [up1]
  · rw [up1_nc _ _ _ z2, up1_nc _ _ _ z2, up1_nc _ _ _ z2]
    have : i = 0 ∨ i = 1 ∨ i = 2 ∨ i = 3 ∨ i = 4 ∨ i = 5 ∨ i = 6 ∨ i = 7 := by omega
    rcases this with rfl | rfl | rfl | rfl | rfl | rfl | rfl | rfl
    all_goals simp [up1]
    all_goals decide
/-- which row is now -/
theorem sp145w {G : gd_H} {w : Nat} (t99 : gT G 99 = 3) (r99 : gR G 99 0 = 100) (t100 : gT G 100 = 35) (l100 : gL G 100 = 17) (rw : gR G 100 w = 101 + 16 * w) (i99 : gI G 99 1 = Int32.ofNat w) (hw : w ≤ 16) {d : Nat} (hd : 1 ≤ d) : run gd_P0 d 145 [.ref 99] G = some (.inl (some (.ref (101 + 16 * w))), G) := by
  obtain ⟨d, rfl⟩ : ∃ e, d = e + 1 := ⟨d - 1, by omega⟩
  rw [r145, s145_0, if_pos t99, if_pos t99, r99, i99, l100, if_pos ⟨t100, by rw [j_ix (by omega) (by omega)]; exact trivial⟩, j_cl (by omega), rw]
/-- the steps laid in a row -/
theorem ZI.el {h0 h : gd_H} {E : gdE} {r tm p0 p c : Nat} {V : gdT → gdT} (z : ZI h0 h E r tm p0 p V c) (hp : p ≤ p0 + 150) : ∃ (m arr : Nat) (Vi : Nat → gdT → gdT), (gT h r = 18 ∧ gI h r 0 = Int32.ofNat tm ∧ gI h r 2 = Int32.ofNat m ∧ gR h r 1 = arr ∧ gT h arr = 37 ∧ m ≤ gL h arr ∧ m ≤ 40) ∧ (gS h0 ≤ r ∧ r < gS h ∧ gS h0 ≤ arr ∧ arr < gS h) ∧ (∀ i, i < m → RWs h (gS h0) (gS h) E (p - p0) (gR h arr i) (Vi i)) ∧ V = fun s => fo (fun i s => gu (Vi i) s) m s := by
  obtain ⟨m, arr, Vi, ⟨a1, a2, a3, a4, a5⟩, ⟨b1, -⟩, ⟨c1, c2, c3, c4, c5⟩, d, e, f, k⟩ := z
  refine ⟨m, arr, Vi, ⟨a1, a2, a3, a4, a5, b1, by omega⟩, ⟨c1, c2, c3, c4⟩, fun i hi => ?_, f⟩
  obtain ⟨l, u, ⟨x1, x2, -, -⟩, w⟩ := e i hi
  exact RWs_cg x1 x2 (fun b _ _ => ⟨rfl, rfl, rfl, rfl⟩) _ _ _ _ (Nat.le_refl _) w

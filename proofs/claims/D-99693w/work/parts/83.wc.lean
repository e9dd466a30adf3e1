/-! ===== WORK: the class reads a step ===== -/
set_option maxRecDepth 100000
/-- a work's reader -/
def WK (h : gd_H) (κ ρ ω σ : Nat) (E : gdE) : Prop := (gT h κ = 16 ∧ gR h κ 0 = ω ∧ gR h κ 1 = ρ ∧ gR h κ 2 = σ) ∧ (gT h ω = 38 ∧ gL h ω = 8 ∧ ∀ i, i < 8 → gR h ω i = 8 + 2 * (14 + i)) ∧ (gT h σ = 6 ∧ gI h σ 6 = Int32.ofNat (eB E) ∧ gI h σ 7 = Int32.ofNat (eN E)) ∧ (κ < gS h ∧ ω < gS h ∧ σ < gS h ∧ ω ≠ ρ ∧ σ ≠ ρ) ∧ (eB E ≤ 6 ∧ eN E ≤ 7)
theorem WK.ke {h h' : gd_H} {κ ρ ω σ c : Nat} {E : gdE} (hw : WK h κ ρ ω σ E) (k : Ke c h h') : WK h' κ ρ ω σ E := by
  obtain ⟨⟨b1, b2, b3, b0⟩, ⟨b4, b5, b6⟩, ⟨c1, c2, c3⟩, ⟨b7, b8, b9, d1, d2⟩, e⟩ := hw
  obtain ⟨x1, x2, x3, x4⟩ := k.2 κ b7
  obtain ⟨y1, y2, y3, y4⟩ := k.2 ω b8
  obtain ⟨z1, z2, z3, z4⟩ := k.2 σ b9
  have := k.1.1
  exact ⟨⟨x1.trans b1, by rw [x4]; exact b2, by rw [x4]; exact b3, by rw [x4]; exact b0⟩, ⟨y1.trans b4, y2.trans b5, by rw [y4]; exact b6⟩, ⟨z1.trans c1, by rw [z3]; exact c2, by rw [z3]; exact c3⟩, ⟨by omega, by omega, by omega, d1, d2⟩, e⟩
/-- how the reading of a step ends -/
def YO (ρ : Nat) (h : gd_H) (o : Nat) (E : gdE) (p : Nat) : gdQ gdY → Option gd_O → Prop
  | .inl (k, pl), out => WE ρ (5 * (160 - p)) h k pl out
  | .inr (p', a), out => ∃ h' t, out = some (.inl (some (.ref t)), rz h' ρ p' o) ∧ Ke (5 * (p' - p) - 5) h h' ∧ RWs h' (gS h) (gS h') E (p' - p) t a.2
def YVs (X : gdX) (E : gdE) (o : Nat) (u : Nat → gdQ gdY) (dm : Nat) : Prop := ∀ (d : Nat) (h : gd_H) (ρ κ ω σ p : Nat), dm ≤ d → RB h ρ X → SK h → WK h κ ρ ω σ E → p ≤ xn X → YO ρ h o E p (u p) (run gd_P0 d 125 [.ref κ] (rz h ρ p o))
/-- an again's -/
def AO (X : gdX) (ρ : Nat) (h : gd_H) (o : Nat) (E : gdE) (p : Nat) : gdQ gdY → Option gd_O → Prop
  | .inl (k, pl), out => WE ρ (5 * (160 - p)) h k pl out
  | .inr (p', a), out => ∃ h' t, out = some (.inl (some (.ref t)), rz h' ρ p' o) ∧ Ke (5 * (p' - p)) h h' ∧ (p < p' ∧ p' ≤ xn X) ∧ RWs h' (gS h) (gS h') E (p' - p + 1) t a.2
def AVs (X : gdX) (E : gdE) (o : Nat) (u : Nat → gdQ gdY) (dm : Nat) : Prop := ∀ (d : Nat) (h : gd_H) (ρ κ ω σ p : Nat), dm ≤ d → RB h ρ X → SK h → WK h κ ρ ω σ E → p ≤ xn X → AO X ρ h o E p (u p) (run gd_P0 d 127 [.ref κ] (rz h ρ p (o + 1)))
theorem sp126 {h : gd_H} {ρ κ ω σ : Nat} {X : gdX} {E : gdE} (hb : RB h ρ X) (hw : WK h κ ρ ω σ E) {d : Nat} (hd : 5 ≤ d) {p : Nat} (hp : p ≤ xn X) (o : Nat) : TR ρ 1 h o (fun v => some (.int (Int32.ofNat v))) (tN X 0 (eN E) p) (run gd_P0 d 126 [.ref κ] (rz h ρ p o)) := by
  obtain ⟨d, rfl⟩ : ∃ e, d = e + 1 := ⟨d - 1, by omega⟩
  obtain ⟨⟨t1, r0, r1, r2⟩, -, ⟨t2, i6, i7⟩, ⟨-, -, -, -, sr⟩, e1, e2⟩ := hw
  have n := sp104 hb (d := d) (by omega) hp o (l := 0) (hs := eN E) (by omega) (by omega) (hi := Int32.ofNat (eN E) - 1) (fun v hv => hi_ok (by omega) hv)
  have n : TR ρ 1 h o _ _ (run gd_P0 d 104 [.ref ρ, .int 0, .int (Int32.ofNat (eN E) - 1)] (rz h ρ p o)) := n
  rw [r126, s126_0, gT_rz, gR_rz, if_pos t1, if_pos t1, r2, r1, if_pos t2, if_pos hb.1.1, rz_b _ _ _ _ sr, i7]
  revert n
  rcases tN X 0 (eN E) p with ⟨kk, pl⟩ | ⟨p1, v⟩
  · intro n
    exact WE.gc n rfl
  · intro n
    have n : run gd_P0 d 104 [.ref ρ, .int 0, .int (Int32.ofNat (eN E) - 1)] (rz h ρ p o) = _ := n
    rw [n, gc_v, s126_17]
    rfl
theorem rz_wa2 {h : gd_H} {ρ a : Nat} (ha : a ≠ ρ) (p o k k2 : Nat) (v v2 : Int32) : wI (rz h ρ p o) (up1 (up1 (gI (rz h ρ p o)) a k v) a k2 v2) = rz (wI h (up1 (up1 (gI h) a k v) a k2 v2)) ρ p o := by
  have e1 := rz_wa (h := h) ha p o k v
  have e2 := rz_wa (h := wI h (up1 (gI h) a k v)) ha p o k2 v2
  rw [← e1] at e2
  exact e2
theorem rz_wa3 {h : gd_H} {ρ a : Nat} (ha : a ≠ ρ) (p o k k2 k3 : Nat) (v v2 v3 : Int32) : wI (rz h ρ p o) (up1 (up1 (up1 (gI (rz h ρ p o)) a k v) a k2 v2) a k3 v3) = rz (wI h (up1 (up1 (up1 (gI h) a k v) a k2 v2) a k3 v3)) ρ p o := by
  have e1 := rz_wa2 (h := h) ha p o k k2 v v2
  have e2 := rz_wa (h := wI h (up1 (up1 (gI h) a k v) a k2 v2)) ha p o k3 v3
  rw [← e1] at e2
  exact e2
theorem y132 {h h1 : gd_H} {ρ c k a a1 : Nat} {X : gdX} {E : gdE} (hb : RB h ρ X) (kc : Ke c h h1) (ht : gT h1 a1 = 19) (ha : gS h ≤ a1) (ha2 : a1 < gS h1) (hk : k = 0 ∨ k = 4 ∨ k = 5) (hp : POK E k a 0) (p o : Nat) {d : Nat} (hd : 2 ≤ d) :
    ∃ h2, run gd_P0 d 132 [.ref a1, .int (Int32.ofNat k), .int (Int32.ofNat a)] (rz h1 ρ p o) = some (.inl none, rz h2 ρ p o) ∧ Ke c h h2 ∧ RWs h2 (gS h) (gS h2) E 1 a1 (pOne E k a 0) := by
  obtain ⟨d, rfl⟩ : ∃ e, d = e + 1 := ⟨d - 1, by omega⟩
  have hρ := hb.2.2.2.1
  refine ⟨wI h1 (up1 (up1 (gI h1) a1 0 (Int32.ofNat k)) a1 1 (Int32.ofNat a)), ?_, kc.w (up1 (up1 (gI h1) a1 0 (Int32.ofNat k)) a1 1 (Int32.ofNat a)) (gR h1) (fun b hb => by rw [up1_nc _ _ _ (by omega), up1_nc _ _ _ (by omega)]) (fun _ _ => rfl), ⟨ha, ha2⟩, Or.inl ⟨ht, k, a, hk, hp, ?_, ?_, rfl⟩⟩
  · rw [r132, s132_0, gT_rz, if_pos ht, sp128 (by omega) _ (by omega), gc_n, s132_4, gT_rz, if_pos ht, if_pos ht, rz_wa2 (by omega)]
  · show up1 (up1 (gI h1) a1 0 _) a1 1 _ a1 0 = _
    rw [up1_nj _ _ (by decide), up1_eq]
  · show up1 (up1 (gI h1) a1 0 _) a1 1 _ a1 1 = _
    rw [up1_eq]
theorem y136 {h h1 : gd_H} {ρ c k a b x y a1 : Nat} {X : gdX} {E : gdE} (hb : RB h ρ X) (kc : Ke c h h1) (ht : gT h1 a1 = 20) (ha : gS h ≤ a1) (ha2 : a1 < gS h1) (hk : (k = 1 ∧ x = a ∧ y = b) ∨ (k = 2 ∧ x = 0 ∧ y = a) ∨ (k = 3 ∧ x = a ∧ y = b)) (hp : POK E k a b) (p o : Nat) {d : Nat} (hd : 2 ≤ d) :
    ∃ h2, run gd_P0 d 136 [.ref a1, .int (Int32.ofNat k), .int (Int32.ofNat x), .int (Int32.ofNat y)] (rz h1 ρ p o) = some (.inl none, rz h2 ρ p o) ∧ Ke c h h2 ∧ RWs h2 (gS h) (gS h2) E 1 a1 (pOne E k a b) := by
  obtain ⟨d, rfl⟩ : ∃ e, d = e + 1 := ⟨d - 1, by omega⟩
  have hρ := hb.2.2.2.1
  refine ⟨wI h1 (up1 (up1 (up1 (gI h1) a1 0 (Int32.ofNat k)) a1 1 (Int32.ofNat x)) a1 2 (Int32.ofNat y)), ?_, kc.w (up1 (up1 (up1 (gI h1) a1 0 (Int32.ofNat k)) a1 1 (Int32.ofNat x)) a1 2 (Int32.ofNat y)) (gR h1) (fun b hb => by rw [up1_nc _ _ _ (by omega), up1_nc _ _ _ (by omega), up1_nc _ _ _ (by omega)]) (fun _ _ => rfl), ⟨ha, ha2⟩, Or.inr (Or.inl ⟨ht, k, a, b, x, y, hp, hk, ?_, ?_, ?_, rfl⟩)⟩
  · rw [r136, s136_0, gT_rz, if_pos ht, sp128 (by omega) _ (by omega), gc_n, s136_4, gT_rz, if_pos ht, if_pos ht, if_pos ht, rz_wa3 (by omega)]
  · show up1 (up1 (up1 (gI h1) a1 0 _) a1 1 _) a1 2 _ a1 0 = _
    rw [up1_nj _ _ (by decide), up1_nj _ _ (by decide), up1_eq]
  · show up1 (up1 (up1 (gI h1) a1 0 _) a1 1 _) a1 2 _ a1 1 = _
    rw [up1_nj _ _ (by decide), up1_eq]
  · show up1 (up1 (up1 (gI h1) a1 0 _) a1 1 _) a1 2 _ a1 2 = _
    rw [up1_eq]
theorem y220 {h h2 : gd_H} {ρ κ ω σ c p p1 n t o : Nat} {X : gdX} {E : gdE} {a : gdY} (hb : RB h ρ X) (h15 : xn X ≤ 150) (hw : WK h κ ρ ω σ E) (k : Ke c h h2) (hp : p < p1) (hp1 : p1 ≤ xn X) (w : RWs h2 (gS h) (gS h2) E n t a.2) (hc : c ≤ 5 * (p1 - p)) (hn : n ≤ p1 - p) {d : Nat} (hd : 4 ≤ d) :
    YO ρ h o E p (qb (tS X 59 p1) fun p2 _ => .inr (p2, a)) (go gd_P0 d 125 220 [.ref κ, .null, .ref t] [] (rz h2 ρ p1 o)) := by
  have hw2 := hw.ke k
  have hb2 := hb.ke k
  have hρ := hb.2.2.2.1
  have r := sp106 hb2 hd hp1 o (c := 59) (by omega)
  have g := tS_g (X := X) (c := 59) (by decide) hp1
  rw [s125_220, gT_rz, if_pos hw2.1.1, gR_rz, hw2.1.2.2.1, if_pos hb2.1.1]
  revert r g
  rcases tS X 59 p1 with ⟨kk, pl⟩ | ⟨p2, ⟨⟩⟩
  · intro r _
    exact (WE.ke r k (by omega) (by omega)).gc rfl
  · intro r g
    obtain ⟨g1, g2, -⟩ := g
    have r : run gd_P0 d 106 [.ref ρ, .int 59] (rz h2 ρ p1 o) = _ := r
    rw [r, gc_n, s125_229]
    exact ⟨h2, t, rfl, k.up (by omega), RWs_cg (Nat.le_refl _) (Nat.le_refl _) (fun _ _ _ => ⟨rfl, rfl, rfl, rfl⟩) _ _ _ _ (by omega) w⟩

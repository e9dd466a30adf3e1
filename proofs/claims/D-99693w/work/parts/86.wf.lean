/-! ===== WORK: the class runs steps ===== -/
set_option maxRecDepth 100000
theorem XC.fr2 {I I' : Nat → Nat → Int32} {a σ : Nat} {E : gdE} {al : Int32} {r : gdR} (hx : XC I a σ E al r) (hf : ∀ b, (a ≤ b ∧ b ≤ a + 6) ∨ (σ ≤ b ∧ b ≤ σ + 6) → I' b = I b) : XC I' a σ E al r := by
  have e0 := hf a (by omega)
  have e1 := hf (a + 1) (by omega)
  have e2 := hf (a + 2) (by omega)
  have e3 := hf (a + 3) (by omega)
  have e4 := hf (a + 4) (by omega)
  have e5 := hf (a + 5) (by omega)
  have e6 := hf (a + 6) (by omega)
  have g0 := hf σ (by omega)
  have g2 := hf (σ + 2) (by omega)
  have g5 := hf (σ + 5) (by omega)
  have g6 := hf (σ + 6) (by omega)
  unfold XC
  rw [e0, e1, e2, e3, e4, e5, e6, g0, g2, g5, g6]
  exact hx
theorem TV_t {h : gd_H} {I : Nat → Nat → Int32} (hI : ∀ b, 1264 < b → gT h b ≠ 22 → I b = gI h b) : ∀ (n t : Nat) (V : gdV), TV h n t V → TV (wI h I) n t V
  | 0, t, V, hh => hh.elim
  | n + 1, t, V, hh => by
    obtain ⟨⟨h0, h00⟩, hh⟩ := hh
    refine ⟨⟨h0, h00⟩, ?_⟩
    rcases hh with ⟨ht, hh⟩ | ⟨ht, hh⟩ | ⟨ht, k, V1, V2, h1, h2, h3, h4, h5⟩
    · exact Or.inl ⟨ht, by rw [gI_wI, hI t h0 (by omega)]; exact hh⟩
    · exact Or.inr (Or.inl ⟨ht, by rw [gI_wI, hI t h0 (by omega)]; exact hh⟩)
    · exact Or.inr (Or.inr ⟨ht, k, V1, V2, h1, by rw [gI_wI, hI t h0 (by omega)]; exact h2, TV_t hI n _ _ h3, TV_t hI n _ _ h4, h5⟩)
theorem LWx.t {h : gd_H} {I : Nat → Nat → Int32} {lw : gdV} (hl : LWx h lw) (hI : ∀ b, 1264 < b → gT h b ≠ 22 → I b = gI h b) : LWx (wI h I) lw := by
  obtain ⟨t, hl | ⟨n, hn, hT⟩⟩ := hl
  · exact ⟨t, Or.inl hl⟩
  · exact ⟨t, Or.inr ⟨n, hn, TV_t hI _ _ _ hT⟩⟩
/-- a run: its row, how many were begun, done, refused -/
def WT (h : gd_H) (ν a σ : Nat) (E : gdE) (s : gdT) : Prop := (gT h ν = 22 ∧ gR h ν 0 = a ∧ 1264 < ν ∧ (ν < σ ∨ σ + 6 < ν)) ∧ (gI h ν 1 = Int32.ofNat s.2.1 ∧ gI h ν 2 = Int32.ofNat s.2.2.1 ∧ gI h ν 3 = Int32.ofNat s.2.2.2) ∧ (SS h a σ ∧ XC (gI h) a σ E (-1) s.1 ∧ LWx h (eL E)) ∧ (EI E ∧ RJ E s.1 ∧ s.2.1 ≤ 200 ∧ s.2.2.1 + s.2.2.2 ≤ s.2.1)
/-- what a run's steps leave -/
def WF (I I' : Nat → Nat → Int32) (ν a : Nat) : Prop := ∀ b, b ≠ ν → (b < a ∨ a + 8 < b) → I' b = I b
theorem WF.trans {I1 I2 I3 : Nat → Nat → Int32} {ν a : Nat} (x : WF I1 I2 ν a) (y : WF I2 I3 ν a) : WF I1 I3 ν a := fun b h1 h2 => (y b h1 h2).trans (x b h1 h2)
theorem sp141 {h : gd_H} {ν a σ : Nat} {E : gdE} {s : gdT} (hw : WT h ν a σ E s) {d : Nat} (hd : 1 ≤ d) : run gd_P0 d 141 [.ref ν] h = some (.inl (some (.int (if s.2.1 < 200 then 1 else 0))), h) := by
  obtain ⟨d, rfl⟩ : ∃ e, d = e + 1 := ⟨d - 1, by omega⟩
  obtain ⟨⟨t, -⟩, ⟨i1, -⟩, -, -, -, b, -⟩ := hw
  have q : (200 ≤ gI h ν 1) = (200 ≤ s.2.1) := by rw [i1]; exact j_le (n := s.2.1) (m := 200) (by omega) (by omega)
  rw [r141, s141_0, if_pos t]
  by_cases c : s.2.1 < 200
  · rw [if_neg (show ¬ 200 ≤ gI h ν 1 by rw [q]; omega), s141_15, if_pos (Or.inr rfl), if_pos c]
  · rw [if_pos (show 200 ≤ gI h ν 1 by rw [q]; omega), s141_15, if_pos (Or.inl rfl), if_neg c]
/-- a step is counted -/
theorem sp143 {h : gd_H} {I I2 : Nat → Nat → Int32} {ν a σ : Nat} {E : gdE} {s : gdT} (hw : WT (wI h I) ν a σ E s) (hb : s.2.1 < 200) {B : Bool} {r2 : gdR} (hx : XC I2 a σ E (-1) (if B = true then r2 else s.1)) (hI : ∀ b, (b < a ∨ a + 8 < b) → I2 b = up1 I ν 1 (Int32.ofNat (s.2.1 + 1)) b) (hr : B = true → RJ E r2) {d : Nat} (hd : 1 ≤ d) :
    ∃ I', run gd_P0 d 143 [.ref ν, .int (if B = true then 1 else 0)] (wI h I2) = some (.inl none, wI h I') ∧ WT (wI h I') ν a σ E (if B = true then (r2, s.2.1 + 1, s.2.2.1 + 1, s.2.2.2) else (s.1, s.2.1 + 1, s.2.2.1, s.2.2.2 + 1)) ∧ WF I I' ν a := by
  obtain ⟨d, rfl⟩ : ∃ e, d = e + 1 := ⟨d - 1, by omega⟩
  obtain ⟨⟨t, r0, hν, νσ⟩, ⟨i1, i2, i3⟩, ⟨ss, xc, lw⟩, ei, rj, b1, b2⟩ := hw
  have a12 : a + 16 ≤ 1212 := ss.1.2.1
  have σ12 : 1223 < σ := ss.1.2.2
  have I2ν := hI ν (by omega)
  have t : gT h ν = 22 := t
  have i1 : I ν 1 = Int32.ofNat s.2.1 := i1
  have i2 : I ν 2 = Int32.ofNat s.2.2.1 := i2
  have i3 : I ν 3 = Int32.ofNat s.2.2.2 := i3
  have fr : ∀ (j : Nat) (v : Int32), WF I (up1 I2 ν j v) ν a := fun j v b h1 h2 => by rw [up1_nc _ _ _ h1, hI b h2, up1_nc _ _ _ h1]
  have lw' : ∀ (j : Nat) (v : Int32), LWx (wI h (up1 I2 ν j v)) (eL E) := fun j v => LWx.t (h := wI h I) lw fun b h1 h2 => by
    have : b ≠ ν := fun z => h2 (by rw [z]; exact t)
    exact fr j v b this (by omega)
  have xc' : ∀ (j : Nat) (v : Int32) (r : gdR), XC I2 a σ E (-1) r → XC (up1 I2 ν j v) a σ E (-1) r := fun j v r hx => hx.fr2 fun b hb => up1_nc _ _ _ (by omega)
  rw [r143, s143_0, gT_wI]
  cases B with
  | true =>
    rw [if_pos rfl] at hx
    rw [if_neg (show ¬ (if true = true then (1 : Int32) else 0) = 0 by decide), if_pos t, if_pos t, gI_wI, s143_27, if_pos rfl, wI_wI]
    refine ⟨_, rfl, ⟨⟨t, r0, hν, νσ⟩, ⟨?_, ?_, ?_⟩, ⟨ss, xc' _ _ _ hx, lw' _ _⟩, ei, hr rfl, by show s.2.1 + 1 ≤ 200; omega, by show s.2.2.1 + 1 + s.2.2.2 ≤ s.2.1 + 1; omega⟩, fr _ _⟩
    · show up1 I2 ν 2 _ ν 1 = _
      rw [up1_nj _ _ (by decide), I2ν, up1_eq]
    · show up1 I2 ν 2 (I2 ν 2 + 1) ν 2 = _
      rw [up1_eq, I2ν, up1_nj _ _ (by decide), i2]
      exact j_s _
    · show up1 I2 ν 2 _ ν 3 = _
      rw [up1_nj _ _ (by decide), I2ν, up1_nj _ _ (by decide)]
      exact i3
  | false =>
    rw [if_neg (by decide)] at hx
    rw [if_pos (show (if false = true then (1 : Int32) else 0) = 0 from rfl), if_pos t, if_pos t, gI_wI, s143_27, if_neg (by decide), wI_wI]
    refine ⟨_, rfl, ⟨⟨t, r0, hν, νσ⟩, ⟨?_, ?_, ?_⟩, ⟨ss, xc' _ _ _ hx, lw' _ _⟩, ei, rj, by show s.2.1 + 1 ≤ 200; omega, by show s.2.2.1 + (s.2.2.2 + 1) ≤ s.2.1 + 1; omega⟩, fr _ _⟩
    · show up1 I2 ν 3 _ ν 1 = _
      rw [up1_nj _ _ (by decide), I2ν, up1_eq]
    · show up1 I2 ν 3 _ ν 2 = _
      rw [up1_nj _ _ (by decide), I2ν, up1_nj _ _ (by decide)]
      exact i2
    · show up1 I2 ν 3 (I2 ν 3 + 1) ν 3 = _
      rw [up1_eq, I2ν, up1_nj _ _ (by decide), i3]
      exact j_s _

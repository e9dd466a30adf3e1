/-! ===== WORK: the model runs rows of steps ===== -/
set_option maxRecDepth 100000
theorem wd_stop {E : gdE} : ∀ (n : Nat) (cs : List (Nat × Nat × Nat)) (V : gdT → gdT), wd E n false cs V → ∀ s, 200 ≤ s.2.1 → V s = s
  | 0, cs, V, h, s, hs => by rw [wd] at h; exact h.elim
  | n + 1, cs, V, h, s, hs => by
    rw [wd] at h
    rcases h with ⟨-, rfl⟩ | ⟨c1, V1, c2, V2, h1, h2, -, rfl⟩
    · rfl
    · show gu V2 (V1 s) = s
      rw [wd_stop n c1 V1 h1 s hs]
      unfold gu
      rw [if_neg (by omega)]
theorem g212 (d : Nat) (w1 w4 w5 : Value) (v2 v3 : Int32) (H : gd_H) : go gd_P0 d 212 2 [.ref 1231, w1, .int v2, .int v3, w4, w5] [] H = go gd_P0 d 212 2 [.ref 1231, .null, .int v2, .int v3, .null, .null] [] H := (s212_2 ..).trans (s212_2 ..).symm
theorem WM.q {I : Nat → Nat → Int32} {E : gdE} {s : gdT} (w : WM I E s) : (200 ≤ I 1231 35) = (200 ≤ s.2.1) := by
  rw [w.1.1]
  exact j_le (n := s.2.1) (m := 200) (by omega) (by have := w.2.2.2.2.1; omega)
/-- at its end, or stopped -/
theorem g212e {h : gd_H} (hm : MS h) {I : Nat → Nat → Int32} {E : gdE} {s : gdT} (w : WM I E s) {H c : Nat} (hH : H ≤ 50) (hc : c ≤ 50) (he : H ≤ c ∨ 200 ≤ s.2.1) (d : Nat) (w1 w4 w5 : Value) : go gd_P0 d 212 2 [.ref 1231, w1, .int (Int32.ofNat (3 * H)), .int (Int32.ofNat (3 * c)), w4, w5] [] (wI h I) = some (.inl none, wI h I) := by
  have q : (Int32.ofNat (3 * H) ≤ Int32.ofNat (3 * c)) = (3 * H ≤ 3 * c) := j_le (by omega) (by omega)
  rw [s212_2]
  by_cases z : H ≤ c
  · rw [if_pos (by rw [q]; omega), s212_153]
  · rw [if_neg (by rw [q]; omega), gT_wI, if_pos hm.t, gI_wI, if_pos (by rw [w.q]; omega), s212_153]
/-- a code's cells -/
theorem c1249 {h : gd_H} (hm : MS h) (I : Nat → Nat → Int32) {i : Nat} (hi : i < 150) : ¬ (Int32.ofNat i < 0 ∨ gL (wI h I) 1249 ≤ Int32.toNatClampNeg (Int32.ofNat i)) := by
  rw [gL_wI, m_l31 hm, j_ix (by omega) hi]
  exact trivial
/-- one more is begun -/
theorem WM.b {I : Nat → Nat → Int32} {E : gdE} {s : gdT} (w : WM I E s) (hb : s.2.1 < 200) : WM (up1 I 1231 35 (Int32.ofNat (s.2.1 + 1))) E (s.1, s.2.1 + 1, s.2.2.1, s.2.2.2) ∧ WG I (up1 I 1231 35 (Int32.ofNat (s.2.1 + 1))) := by
  obtain ⟨⟨a1, a2, a3⟩, ⟨b1, b2⟩, c1, c2, c3, c4⟩ := w
  refine ⟨⟨⟨up1_eq _ _ _ _, (up1_nj _ _ (by omega)).trans a2, (up1_nj _ _ (by omega)).trans a3⟩, ⟨b1.fj (fun j hj => up1_nj _ _ (by omega)) (up1_nc _ _ _ (by omega)) (up1_nc _ _ _ (by omega)) (up1_nc _ _ _ (by omega)) (up1_nc _ _ _ (by omega)), b2.fj (up1_nj _ _ (by omega)) (up1_nc _ _ _ (by omega)) (up1_nc _ _ _ (by omega))⟩, c1, c2, by show s.2.1 + 1 ≤ 200; omega, by show s.2.2.1 + s.2.2.2 ≤ s.2.1 + 1; omega⟩, fun b h1 h2 h3 h4 h5 => up1_nc _ _ _ h1, fun j h1 h2 h3 => up1_nj _ _ h1⟩
/-- a simple step -/
theorem t212 {h : gd_H} (hm : MS h) {I : Nat → Nat → Int32} {E : gdE} {s : gdT} (w : WM I E s) (hb : s.2.1 < 200) {H c k x y : Nat} (hp : POK E k x y) (hH : H ≤ 50) (hc : c + 1 ≤ H) (cm : CM (I 1249) c [(k, x, y)]) {d : Nat} (hd : 12 ≤ d) : ∃ I', go gd_P0 d 212 2 [.ref 1231, .null, .int (Int32.ofNat (3 * H)), .int (Int32.ofNat (3 * c)), .null, .null] [] (wI h I) = go gd_P0 d 212 2 [.ref 1231, .null, .int (Int32.ofNat (3 * H)), .int (Int32.ofNat (3 * (c + 1))), .null, .null] [] (wI h I') ∧ WM I' E (pOne E k x y s) ∧ WG I I' := by
  have hk : k < 7 := by unfold POK at hp; omega
  obtain ⟨wb, gb⟩ := w.b hb
  obtain ⟨⟨a1, a2, a3⟩, -⟩ := cm
  have i35 : I 1231 35 + 1 = Int32.ofNat (s.2.1 + 1) := by rw [w.1.1]; exact j_s _
  have q : (Int32.ofNat (3 * H) ≤ Int32.ofNat (3 * c)) = (3 * H ≤ 3 * c) := j_le (by omega) (by omega)
  have q1 : Int32.ofNat (3 * c) + 1 = Int32.ofNat (3 * c + 1) := j_s _
  have q2 : Int32.ofNat (3 * c) + 2 = Int32.ofNat (3 * c + 2) := j_add (3 * c) 2
  have q3 : Int32.ofNat (3 * c) + 3 = Int32.ofNat (3 * (c + 1)) := j_add (3 * c) 3
  have t8 : ∀ I : Nat → Nat → Int32, gT (wI h I) 1231 = 8 := fun _ => hm.t
  have r31 : ∀ I : Nat → Nat → Int32, gR (wI h I) 1231 31 = 1249 := fun _ => m_r31 hm
  have t31 : ∀ I : Nat → Nat → Int32, gT (wI h I) 1249 = 31 := fun _ => m_t31 hm
  have e49 : ∀ i, up1 I 1231 35 (Int32.ofNat (s.2.1 + 1)) 1249 i = I 1249 i := fun i => congrFun (up1_nc _ _ _ (by omega)) i
  have a1 : I 1249 (3 * c) = Int32.ofNat k := a1
  have a2 : I 1249 (3 * c + 1) = Int32.ofNat x := a2
  have a3 : I 1249 (3 * c + 2) = Int32.ofNat y := by
    have : I 1249 (3 * c + 2) = Int32.ofNat (if k = 7 then 3 * (c + 1 + y) else y) := a3
    rw [if_neg (by omega)] at this
    exact this
  have q7 : (Int32.ofNat k = 7) = (k = 7) := j_eq (n := 7) (by omega) (by omega)
  obtain ⟨I2, e2, x2, f2, r2⟩ := m213 (I := up1 I 1231 35 (Int32.ofNat (s.2.1 + 1))) hm wb.2.1.1 wb.2.1.2 w.2.2.1 w.2.2.2.1 hp hd
  have x0 := c1249 hm I (i := 3 * c) (by omega)
  have x1 := c1249 hm I (i := 3 * c + 1) (by omega)
  have x3 := c1249 hm I (i := 3 * c + 2) (by omega)
  have E0 : go gd_P0 d 212 2 [.ref 1231, .null, .int (Int32.ofNat (3 * H)), .int (Int32.ofNat (3 * c)), .null, .null] [] (wI h I) = go gd_P0 d 212 121 [.ref 1231, .null, .int (Int32.ofNat (3 * H)), .int (Int32.ofNat (3 * c)), .null, .null] [.int (if pStB E k x y s.1 = true then 1 else 0)] (wI h I2) := by
    rw [s212_2, if_neg (by rw [q]; omega), if_pos (t8 _), gI_wI, if_neg (by rw [w.q]; omega), if_pos (t8 _), if_pos (t8 _), if_pos (t8 _), r31, if_pos ⟨t31 _, x0⟩, i35, j_cl (by omega), e49, a1, if_neg (by rw [q7]; omega), if_pos (t8 _), if_pos ⟨t31 _, by rw [← j_cl (n := 3 * c) (by omega)]; rw [j_cl (n := 3 * c) (by omega)]; have := x0; rw [j_cl (by omega)] at this; exact this⟩, if_pos (t8 _), q1, if_pos ⟨t31 _, x1⟩, if_pos (t8 _), q2, if_pos ⟨t31 _, x3⟩, if_pos (t8 _), j_cl (by omega), j_cl (by omega), e49, e49, a2, a3, wI_wI, e2, gc_v]
  have fin : ∀ (j : Nat) (I3 : Nat → Nat → Int32), j = 36 ∨ j = 37 → I3 = up1 I2 1231 j (I2 1231 j + 1) → WG I I3 := by
    rintro j I3 hj rfl
    exact gb.trans ⟨fun b h1 h2 h3 h4 h5 => by rw [up1_nc _ _ _ h1]; exact f2 b h2 h3 h4 h5, fun j' h1 h2 h3 => by rw [up1_nj _ _ (by omega), f2 1231 (by omega) (by omega) (by omega) (by omega)]⟩
  have i2 : I2 1231 = up1 I 1231 35 (Int32.ofNat (s.2.1 + 1)) 1231 := f2 1231 (by omega) (by omega) (by omega) (by omega)
  have ml2 : MLx I2 (eL E) := wb.2.1.2.fj (by rw [i2]) (f2 1244 (by omega) (by omega) (by omega) (by omega)) (f2 1245 (by omega) (by omega) (by omega) (by omega))
  have ms : ∀ (j : Nat) (v : Int32) (r : gdR), j = 36 ∨ j = 37 → MC I2 E (-1) r → MC (up1 I2 1231 j v) E (-1) r ∧ MLx (up1 I2 1231 j v) (eL E) := fun j v r hj hx => ⟨hx.fj (fun j' hj' => up1_nj _ _ (by omega)) (up1_nc _ _ _ (by omega)) (up1_nc _ _ _ (by omega)) (up1_nc _ _ _ (by omega)) (up1_nc _ _ _ (by omega)), ml2.fj (up1_nj _ _ (by omega)) (up1_nc _ _ _ (by omega)) (up1_nc _ _ _ (by omega))⟩
  have j36 : I2 1231 36 + 1 = Int32.ofNat (s.2.2.1 + 1) := by rw [i2, up1_nj _ _ (by omega), w.1.2.1]; exact j_s _
  have j37 : I2 1231 37 + 1 = Int32.ofNat (s.2.2.2 + 1) := by rw [i2, up1_nj _ _ (by omega), w.1.2.2]; exact j_s _
  rw [E0, s212_121]
  unfold pOne
  have b4 := w.2.2.2.2.2
  cases hB : pStB E k x y s.1 with
  | true =>
    rw [hB, if_pos rfl] at x2 r2
    rw [if_pos rfl, if_neg ne_1, if_pos (t8 _), if_pos (t8 _), gI_wI, wI_wI, s212_147, q3, if_pos rfl]
    refine ⟨_, rfl, ⟨⟨?_, ?_, ?_⟩, ms 36 _ _ (Or.inl rfl) x2, w.2.2.1, r2, by show s.2.1 + 1 ≤ 200; omega, by show s.2.2.1 + 1 + s.2.2.2 ≤ s.2.1 + 1; omega⟩, fin 36 _ (Or.inl rfl) rfl⟩
    · rw [up1_nj _ _ (by omega), i2, up1_eq]
    · rw [up1_eq]; exact j36
    · rw [up1_nj _ _ (by omega), i2, up1_nj _ _ (by omega)]; exact w.1.2.2
  | false =>
    rw [hB, if_neg (by decide)] at x2 r2
    rw [if_pos (show (if false = true then (1 : Int32) else 0) = 0 from rfl), if_pos (t8 _), if_pos (t8 _), gI_wI, wI_wI, s212_147, q3, if_neg (by decide)]
    refine ⟨_, rfl, ⟨⟨?_, ?_, ?_⟩, ms 37 _ _ (Or.inr rfl) x2, w.2.2.1, r2, by show s.2.1 + 1 ≤ 200; omega, by show s.2.2.1 + (s.2.2.2 + 1) ≤ s.2.1 + 1; omega⟩, fin 37 _ (Or.inr rfl) rfl⟩
    · rw [up1_nj _ _ (by omega), i2, up1_eq]
    · rw [up1_nj _ _ (by omega), i2, up1_nj _ _ (by omega)]; exact w.1.2.1
    · rw [up1_eq]; exact j37

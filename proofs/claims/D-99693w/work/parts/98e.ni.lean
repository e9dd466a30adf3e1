/-! ===== THE CALL undo ===== -/
set_option maxRecDepth 100000
theorem cpy_g {f : Nat → Nat → Int32} {a b sp dp : Nat} (i : Nat) (hab : a ≠ b) : up1 (cpy f a sp b dp i) b (dp + i) (cpy f a sp b dp i a (sp + i)) = cpy f a sp b dp (i + 1) := by
  funext x j
  unfold up1 cpy
  by_cases hx : x = b
  · subst hx
    by_cases hj : j = dp + i
    · subst hj
      rw [if_pos ⟨rfl, rfl⟩, if_neg (fun z => hab z.1), if_pos ⟨rfl, by omega, by omega⟩]
      exact congrArg (f a) (by omega)
    · rw [if_neg (fun z => hj z.2)]
      by_cases hj2 : dp ≤ j ∧ j < dp + i
      · rw [if_pos ⟨rfl, by omega, by omega⟩, if_pos ⟨rfl, by omega, by omega⟩]
      · rw [if_neg (by omega), if_neg (by omega)]
  · rw [if_neg (fun z => hx z.1), if_neg (fun z => hx z.1), if_neg (fun z => hx z.1)]
theorem cpy_gz {f : Nat → Nat → Int32} (a b sp dp : Nat) : cpy f a sp b dp 0 = f := by
  funext x j
  unfold cpy
  rw [if_neg (by omega)]
theorem FX.wI {h : gd_H} (I' : Nat → Nat → Int32) (hI : ∀ b, b < 96 ∨ (1230 < b ∧ b ≤ 1264) → I' b = gI h b) : FX h (wI h I') := ⟨⟨Nat.le_refl _, by show gS h ≤ _; omega, by show gU h ≤ _; omega⟩, fun b hb => ⟨rfl, rfl, hI b hb, rfl⟩⟩
/-- a work is undone -/
def dU (D : gdD) : gdD := (D.1, D.2.1, dW D - 1, D.2.2.2.1, D.2.2.2.2.1, D.2.2.2.2.2.1, D.2.2.2.2.2.2.1, 0, D.2.2.2.2.2.2.2.2)
def UD (D : gdD) : Value × gdD := if dW D = 0 then (.int (-1), D) else (.int (Int32.ofNat (dW D - 1)), dU D)
theorem UD_i {D : gdD} (hD : DI D) : DI (UD D).2 := by
  unfold UD
  split
  · exact hD
  · exact ⟨hD.1, fun k hk => hD.2.1 k (by have hk : k ≤ dW D - 1 := hk; omega), hD.2.2.1, hD.2.2.2⟩
theorem x44 {D : gdD} : XDo 44 [] D (UD D).1 (UD D).2 := by
  intro d h hd hi hD hS
  obtain ⟨d, rfl⟩ : ∃ e, d = e + 1 := ⟨d - 1, by omega⟩
  obtain ⟨hg, ⟨σ, ⟨s1, s2, s3⟩, s4, s5, s6, s7⟩, ⟨w1, w2⟩, ⟨i1, i2, i3⟩, ⟨t1, t2, t3⟩, fa, ⟨b1, b2, b3, b4⟩, rs, ⟨r0, r1⟩, lw, sz⟩ := id hi
  have T96 : gT h 96 = 1 := hg.1
  have R2 : gR h 96 2 = 99 := x_r2 hg
  have T99 : gT h 99 = 3 := x_t2 hg
  have q0 : (gI h 99 1 = 0) = (dW D = 0) := by rw [w1]; exact j_eq (n := 0) (by omega) (by omega)
  rw [r44, s44_0, if_pos T96, R2, if_pos T99]
  unfold UD
  by_cases c : dW D = 0
  · rw [if_pos c, if_pos (show gI h 99 1 = 0 by rw [q0]; exact c)]
    exact ⟨h, rfl, hi, (XQ.refl h).fx⟩
  obtain ⟨w, hw⟩ : ∃ w, dW D = w + 1 := ⟨dW D - 1, by omega⟩
  have e1 : up1 (gI h) 96 19 0 99 1 - 1 = Int32.ofNat (dW D - 1) := by rw [up1_nc _ _ _ (by omega), w1, hw, j_dc]; rfl
  rw [if_neg c, if_neg (show ¬ gI h 99 1 = 0 by rw [q0]; exact c), if_pos T96, if_pos T96, if_pos T99, if_pos T99, e1]
  generalize eF : up1 (up1 (gI h) 96 19 0) 99 1 (Int32.ofNat (dW D - 1)) = I'
  have f1 : ∀ b, b ≠ 96 → b ≠ 99 → I' b = gI h b := fun b h1 h2 => by rw [← eF, up1_nc _ _ _ h2, up1_nc _ _ _ h1]
  have f96 : ∀ j, j ≠ 19 → I' 96 j = gI h 96 j := fun j hj => by rw [← eF, up1_nc _ _ _ (by omega), up1_nj _ _ hj]
  have f19 : I' 96 19 = 0 := by rw [← eF, up1_nc _ _ _ (by omega), up1_eq]
  have f99 : I' 99 1 = Int32.ofNat (dW D - 1) := by rw [← eF, up1_eq]
  refine ⟨wI h I', rfl, ⟨hg.wI I', ⟨σ, ⟨s1, s2, s3⟩, s4, fun k hk => ?_, fun k hk => ⟨(s6 k ?_).1, (s6 k ?_).2.eq fun b hb => f1 b ?_ ?_⟩, fun i hi k hk => ⟨(s7 i hi k hk).1, (s7 i hi k hk).2.eq fun b hb => f1 b ?_ ?_⟩⟩, ⟨f99, ?_⟩, ⟨?_, i2, fun i hi => ⟨?_, (i3 i hi).2⟩⟩, ⟨?_, t2, fun j hj => ?_⟩, ?_, ⟨?_, b2, fun k hk => ?_, fun m m1 m2 m3 => ?_⟩, f19, ⟨?_, ?_⟩, ?_, sz⟩, FX.wI _ fun b hb => f1 b (by omega) (by omega)⟩
  · show I' (σ + 1) k = _
    rw [f1 _ (by omega) (by omega)]; exact s5 k hk
  · have hk : k ≤ dW D - 1 := hk; omega
  · have hk : k ≤ dW D - 1 := hk; omega
  · omega
  · omega
  · omega
  · omega
  · show dW D - 1 ≤ 16; omega
  · show I' 96 20 = _
    rw [f96 20 (by omega)]; exact i1
  · show I' (374 + 274 * i) 1 = _
    rw [f1 _ (by omega) (by omega)]; exact (i3 i hi).1
  · show I' 96 16 = _
    rw [f96 16 (by omega)]; exact t1
  · show I' 97 j &&& 255 = _
    rw [f1 _ (by omega) (by omega)]; exact t3 j hj
  · show I' 96 17 = _
    rw [f96 17 (by omega)]; exact fa
  · show I' 96 18 = _
    rw [f96 18 (by omega)]; exact b1
  · show ∃ m, 1 ≤ m ∧ m ≤ 12 ∧ I' 1217 k = _ ∧ I' 1218 k = _ ∧ _
    rw [f1 1217 (by omega) (by omega), f1 1218 (by omega) (by omega)]
    exact b3 k hk
  · show ∃ k, k < dNb D ∧ I' 1217 k = _
    rw [f1 1217 (by omega) (by omega)]
    exact b4 m m1 m2 m3
  · show I' 1216 0 = _
    rw [f1 1216 (by omega) (by omega)]; exact r0
  · show I' 1216 1 = _
    rw [f1 1216 (by omega) (by omega)]; exact r1
  · exact lw.kp (Kp.wI (fun b hb => f1 b (by omega) (by omega))) rfl rfl
theorem lp231 {h : gd_H} (hm : MS h) {I : Nat → Nat → Int32} {w : Nat} (i33 : I 1231 33 = Int32.ofNat w) (hw : w < 16) (d : Nat) : ∀ (q i : Nat), i + q = 50 → go gd_P0 d 231 26 [.ref 1231, .int (Int32.ofNat i)] [] (wI h (cpy I 1252 (50 * w) 1250 0 i)) = go gd_P0 d 231 26 [.ref 1231, .int (Int32.ofNat 50)] [] (wI h (cpy I 1252 (50 * w) 1250 0 50))
  | 0, i, hi => by
    have : i = 50 := by omega
    rw [this]
  | q + 1, i, hi => by
    have ih := lp231 hm i33 hw d q (i + 1) (by omega)
    have t8 : ∀ I : Nat → Nat → Int32, gT (wI h I) 1231 = 8 := fun _ => hm.t
    have e33 : cpy I 1252 (50 * w) 1250 0 i 1231 33 = Int32.ofNat w := by rw [cpy_ne _ (by omega)]; exact i33
    have q1 : (50 : Int32) * Int32.ofNat w = Int32.ofNat (50 * w) := j_mul 50 w
    have x1 : ¬ (Int32.ofNat i < 0 ∨ gL h 1250 ≤ Int32.toNatClampNeg (Int32.ofNat i)) := by rw [m_l38 hm, j_ix (by omega) (by omega)]; exact trivial
    have x2 : ¬ (Int32.ofNat (50 * w + i) < 0 ∨ gL h 1252 ≤ Int32.toNatClampNeg (Int32.ofNat (50 * w + i))) := by rw [m_l40 hm, j_ix (by omega) (by omega)]; exact trivial
    have st := cpy_g (f := I) (a := 1252) (b := 1250) (sp := 50 * w) (dp := 0) i (by omega)
    rw [Nat.zero_add] at st
    rw [s231_26, if_neg (by rw [show (50 : Int32) = Int32.ofNat 50 from rfl, j_le (by omega) (by omega)]; omega), if_pos (t8 _), if_pos (t8 _), if_pos (t8 _), gR_wI, m_r38 hm, m_r40 hm, gT_wI, gL_wI, gI_wI, e33, q1, j_add, if_pos ⟨m_t40 hm, x2⟩, if_pos ⟨m_t38 hm, x1⟩, j_s, j_cl (by omega), j_cl (by omega), wI_wI, st]
    exact ih
theorem m231 {D : gdD} : MDo 231 [] D (UD D).1 (UD D).2 := by
  intro d h hd hi hD hS
  obtain ⟨d, rfl⟩ : ∃ e, d = e + 1 := ⟨d - 1, by omega⟩
  obtain ⟨hm, hBN, ⟨i1, i2, i3⟩, i4, i5, i6, i7, i8, ⟨i9, i9'⟩, ⟨i10, i11, i12⟩, ⟨t1, t2, t3⟩, fa, ⟨b1, b2, b3⟩, rs, ⟨r0, r1⟩, lw⟩ := id hi
  have e33 : up1 (gI h) 1231 0 0 1231 33 = Int32.ofNat (dW D) := by rw [up1_nj _ _ (by omega)]; exact i9
  have q0 : (Int32.ofNat (dW D) = 0) = (dW D = 0) := j_eq (n := 0) (by omega) (by omega)
  rw [r231, s231_0, if_pos hm.t, if_pos hm.t, e33]
  unfold UD
  by_cases c : dW D = 0
  · rw [if_pos c, if_pos (show Int32.ofNat (dW D) = 0 by rw [q0]; exact c)]
    obtain ⟨hz, e1, e2, e3, -⟩ := hi.z
    refine ⟨wI h (up1 (gI h) 1231 0 0), rfl, by rw [e1]; exact e2, FM.wI _ _ fun b hb => up1_nc _ _ _ (by omega), by rw [gI_wI, up1_eq]⟩
  obtain ⟨w, hw⟩ : ∃ w, dW D = w + 1 := ⟨dW D - 1, by omega⟩
  have e1 : Int32.ofNat (dW D) - 1 = Int32.ofNat w := by rw [hw, j_dc]
  have t8 : ∀ I : Nat → Nat → Int32, gT (wI h I) 1231 = 8 := fun _ => hm.t
  rw [if_neg c, if_neg (show ¬ Int32.ofNat (dW D) = 0 by rw [q0]; exact c), if_pos hm.t, if_pos hm.t, e1]
  generalize eI : up1 (up1 (gI h) 1231 0 0) 1231 33 (Int32.ofNat w) = I1
  have I1b : ∀ q, q ≠ 1231 → I1 q = gI h q := fun q hq => by rw [← eI, up1_nc _ _ _ hq, up1_nc _ _ _ hq]
  have I1j : ∀ j, j ≠ 0 → j ≠ 33 → I1 1231 j = gI h 1231 j := fun j h1 h2 => by rw [← eI, up1_nj _ _ h2, up1_nj _ _ h1]
  have I133 : I1 1231 33 = Int32.ofNat w := by rw [← eI, up1_eq]
  have I10 : I1 1231 0 = 0 := by rw [← eI, up1_nj _ _ (by omega), up1_eq]
  have l := lp231 hm I133 (by omega) d 50 0 (by omega)
  rw [cpy_gz] at l
  generalize eI2 : cpy I1 1252 (50 * w) 1250 0 50 = I2 at l
  have I2b : ∀ q, q ≠ 1250 → I2 q = I1 q := fun q hq => by rw [← eI2]; exact cpy_ne _ hq
  have I2r : ∀ j, j < 50 → I2 1250 j = dRow D w j := fun j hj => by
    rw [← eI2]
    unfold cpy
    rw [if_pos ⟨rfl, by omega, by omega⟩, I1b 1252 (by omega), show 50 * w + (j - 0) = 50 * w + j by omega]
    exact i8 w (by omega) j hj
  have l : go gd_P0 d 231 26 [.ref 1231, .int 0] [] (wI h I1) = _ := l
  generalize eF : up1 I2 1231 34 0 = I'
  have f1 : ∀ b, b ≠ 1231 → b ≠ 1250 → I' b = gI h b := fun b h1 h2 => by rw [← eF, up1_nc _ _ _ h1, I2b b h2, I1b b h1]
  have fj : ∀ j, j ≠ 0 → j ≠ 33 → j ≠ 34 → I' 1231 j = gI h 1231 j := fun j h0 h1 h2 => by rw [← eF, up1_nj _ _ h2, I2b 1231 (by omega), I1j j h0 h1]
  have f33 : I' 1231 33 = Int32.ofNat (dW D - 1) := by rw [← eF, up1_nj _ _ (by omega), I2b 1231 (by omega), I133, hw]; rfl
  have f34 : I' 1231 34 = 0 := by rw [← eF, up1_eq]
  have f0 : I' 1231 0 = 0 := by rw [← eF, up1_nj _ _ (by omega), I2b 1231 (by omega)]; exact I10
  have fr : ∀ j, j < 50 → I' 1250 j = dRow D w j := fun j hj => by rw [← eF, up1_nc _ _ _ (by omega)]; exact I2r j hj
  have e33' : up1 I2 1231 34 0 1231 33 = Int32.ofNat (dW D - 1) := by rw [eF]; exact f33
  refine ⟨wI h I', ?_, ⟨hm, hBN, ⟨?_, ?_, ?_⟩, fun k hk => ?_, fun p hp => ?_, fun m hm => ?_, fun j hj => ?_, fun k hk j hj => ?_, ⟨f33, by show dW D - 1 ≤ 16; omega⟩, ⟨?_, i11, fun i hi => ?_⟩, ⟨?_, t2, fun j hj => ?_⟩, ?_, ⟨?_, b2, fun m hm => ?_⟩, f34, ⟨?_, ?_⟩, ?_⟩, FM.wI _ _ fun b hb => f1 b (by omega) (by omega), f0⟩
  · rw [l, s231_26, if_pos (show (50 : Int32) ≤ Int32.ofNat 50 from Int32.le_refl _), if_pos (t8 _), if_pos (t8 _), gI_wI, e33', wI_wI, eF]
  · exact (fj 20 (by omega) (by omega) (by omega)).trans i1
  · exact (fj 21 (by omega) (by omega) (by omega)).trans i2
  · exact (fj 42 (by omega) (by omega) (by omega)).trans i3
  · show I' 1238 (2 * k) = _ ∧ I' 1238 (2 * k + 1) = _
    rw [f1 1238 (by omega) (by omega)]; exact i4 k hk
  · show I' 1240 p = _
    rw [f1 1240 (by omega) (by omega)]; exact i5 p hp
  · show I' 1241 m = _
    rw [f1 1241 (by omega) (by omega)]; exact i6 m hm
  · refine (fr j hj).trans ?_
    show dRow D w j = dRow D (dW D - 1) j
    rw [hw]; rfl
  · have hk : k < dW D - 1 := hk
    show I' 1252 (50 * k + j) = _
    rw [f1 1252 (by omega) (by omega)]; exact i8 k (by omega) j hj
  · exact (fj 56 (by omega) (by omega) (by omega)).trans i10
  · show dIw D i ≤ 16 ∧ I' 1263 _ = _ ∧ (∀ j, j < 50 → I' 1263 _ = _) ∧ ∀ k, k < dIw D i → ∀ j, j < 50 → I' 1263 _ = _
    rw [f1 1263 (by omega) (by omega)]; exact i12 i hi
  · exact (fj 2 (by omega) (by omega) (by omega)).trans t1
  · show I' 1233 j = _
    rw [f1 1233 (by omega) (by omega)]; exact t3 j hj
  · exact (fj 8 (by omega) (by omega) (by omega)).trans fa
  · exact (fj 45 (by omega) (by omega) (by omega)).trans b1
  · show I' 1255 m = _
    rw [f1 1255 (by omega) (by omega)]; exact b3 m hm
  · show I' 1232 0 = _
    rw [f1 1232 (by omega) (by omega)]; exact r0
  · show I' 1232 1 = _
    rw [f1 1232 (by omega) (by omega)]; exact r1
  · exact lw.fj (fj 28 (by omega) (by omega) (by omega)) (f1 1244 (by omega) (by omega)) (f1 1245 (by omega) (by omega))

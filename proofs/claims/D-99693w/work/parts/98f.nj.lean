/-! ===== THE CALL feed ===== -/
set_option maxRecDepth 100000
theorem by8 (x : Int32) : Int8.toInt32 (Int32.toInt8 (Int8.toInt32 (Int32.toInt8 x))) &&& 255 = x &&& 255 := by
  apply Int32.toBitVec_inj.mp
  rw [Int32.toBitVec_and, Int32.toBitVec_and, Int8.toBitVec_toInt32, Int32.toBitVec_toInt8, Int8.toBitVec_toInt32, Int32.toBitVec_toInt8]
  apply BitVec.eq_of_getLsbD_eq
  intro i hi
  simp only [BitVec.getLsbD_and, BitVec.getLsbD_signExtend, BitVec.getLsbD_setWidth]
  by_cases h : i < 8
  · simp [h, hi]
  · have : (255#32).getLsbD i = false := by
      have h255 : ∀ i, i < 32 → ¬ i < 8 → (255#32).getLsbD i = false := by decide
      exact h255 i hi h
    simp [this]
theorem and_255 (x : Int32) : ∃ v, v ≤ 255 ∧ x &&& 255 = Int32.ofNat v := by
  refine ⟨(x &&& 255).toBitVec.toNat, ?_, (Int32.ofNat_bitVecToNat _).symm⟩
  rw [Int32.toBitVec_and, BitVec.toNat_and]
  exact Nat.and_le_right
def vs5 (v1 v2 v3 v4 v5 : Int32) (k : Nat) : Int32 := if k = 0 then v1 else if k = 1 then v2 else if k = 2 then v3 else if k = 3 then v4 else v5
/-- a byte fed, before it is cut -/
def fb0 (vs : Nat → Int32) (k : Nat) : Int32 := vs (k / 4) >>> ((24 - (8 * (Int32.ofNat k - Int32.ofNat (k / 4) * 4))) &&& 31)
def dT (D : gdD) (vs : Nat → Int32) : gdD := (D.1, D.2.1, D.2.2.1, D.2.2.2.1, (dFed D + 20, fun j => if dFed D ≤ j ∧ j < dFed D + 20 then fb0 vs (j - dFed D) &&& 255 else dTp D j), D.2.2.2.2.2.1, D.2.2.2.2.2.2)
def FD (D : gdD) (vs : Nat → Int32) : Value × gdD := if dFed D + 20 ≤ 600 then (.int (Int32.ofNat (dFed D + 20)), dT D vs) else (.int (-1), D)
theorem FD_i {D : gdD} (hD : DI D) (vs : Nat → Int32) : DI (FD D vs).2 := by
  unfold FD
  split
  · refine ⟨hD.1, hD.2.1, hD.2.2.1, fun j hj => ?_⟩
    have hj : j < dFed D + 20 := hj
    show ∃ v, v ≤ 255 ∧ (if dFed D ≤ j ∧ j < dFed D + 20 then fb0 vs (j - dFed D) &&& 255 else dTp D j) = Int32.ofNat v
    split
    · exact and_255 _
    · exact hD.2.2.2 j (by omega)
  · exact hD
/-- the tape is longer -/
theorem XI.feed {h F : gd_H} {D : gdD} {vs : Nat → Int32} (hi : XI h D) (h20 : dFed D + 20 ≤ 600) (hS : gS h ≤ gS F) (hT : ∀ b, b < gS h → gT F b = gT h b ∧ gL F b = gL h b ∧ gR F b = gR h b) (hI : ∀ b, b < gS h → b ≠ 96 → b ≠ 97 → gI F b = gI h b) (h96 : ∀ j, j ≠ 16 → gI F 96 j = gI h 96 j) (f16 : gI F 96 16 = Int32.ofNat (dFed D + 20)) (f97 : ∀ j, j < dFed D → gI F 97 j = gI h 97 j) (g97 : ∀ j, j < 20 → gI F 97 (dFed D + j) &&& 255 = fb0 vs j &&& 255) : XI F (dT D vs) := by
  obtain ⟨hg, ⟨σ, ⟨s1, s2, s3⟩, s4, s5, s6, s7⟩, ⟨w1, w2⟩, ⟨i1, i2, i3⟩, ⟨t1, t2, t3⟩, fa, ⟨b1, b2, b3, b4⟩, rs, ⟨r0, r1⟩, lw, sz⟩ := hi
  have σ12 := s4.1
  refine ⟨hg.al fun b hb => ⟨(hT b (by omega)).1, (hT b (by omega)).2.1, fun _ => (hT b (by omega)).2.2⟩, ⟨σ, ⟨by rw [(hT 96 (by omega)).2.2]; exact s1, s2, by omega⟩, s4.cg (fun b h1 h2 => ⟨(hT b (by omega)).1, (hT b (by omega)).2.1⟩) (fun j => by rw [(hT σ (by omega)).2.2]), fun k hk => ?_, fun k hk => ⟨?_, (s6 k hk).2.eq fun b hb => hI b ?_ ?_ ?_⟩, fun i hi k hk => ⟨?_, (s7 i hi k hk).2.eq fun b hb => hI b ?_ ?_ ?_⟩⟩, ⟨?_, w2⟩, ⟨?_, i2, fun i hi => ⟨?_, (i3 i hi).2⟩⟩, ⟨f16, h20, fun j hj => ?_⟩, ?_, ⟨?_, b2, fun k hk => ?_, fun m m1 m2 m3 => ?_⟩, ?_, ⟨?_, ?_⟩, ?_, by omega⟩
  · rw [hI (σ + 1) (by omega) (by omega) (by omega)]; exact s5 k hk
  · have hk : k ≤ dW D := hk
    rw [(hT (101 + 16 * k) (by omega)).2.2]; exact (s6 k hk).1
  · have hk : k ≤ dW D := hk; omega
  · omega
  · omega
  · have := i3 i hi
    have hi : i < dNi D := hi
    have hk : k ≤ dIw D i := hk
    rw [(hT _ (by omega)).2.2]; exact (s7 i hi k hk).1
  · have := i3 i hi
    have hi : i < dNi D := hi
    have hk : k ≤ dIw D i := hk
    omega
  · omega
  · omega
  · rw [hI 99 (by omega) (by omega) (by omega)]; exact w1
  · rw [h96 20 (by omega)]; exact i1
  · have := i3 i hi
    have hi : i < dNi D := hi
    rw [hI _ (by omega) (by omega) (by omega)]; exact (i3 i hi).1
  · have hj : j < dFed D + 20 := hj
    show gI F 97 j &&& 255 = if dFed D ≤ j ∧ j < dFed D + 20 then fb0 vs (j - dFed D) &&& 255 else dTp D j
    by_cases z : j < dFed D
    · rw [if_neg (by omega), f97 j z]; exact t3 j z
    · rw [if_pos (by omega)]
      have := g97 (j - dFed D) (by omega)
      rw [show dFed D + (j - dFed D) = j by omega] at this
      exact this
  · rw [h96 17 (by omega)]; exact fa
  · rw [h96 18 (by omega)]; exact b1
  · rw [hI 1217 (by omega) (by omega) (by omega), hI 1218 (by omega) (by omega) (by omega)]; exact b3 k hk
  · rw [hI 1217 (by omega) (by omega) (by omega)]; exact b4 m m1 m2 m3
  · rw [h96 19 (by omega)]; exact rs
  · rw [hI 1216 (by omega) (by omega) (by omega)]; exact r0
  · rw [hI 1216 (by omega) (by omega) (by omega)]; exact r1
  · exact lw.kp ⟨hS, fun b hb h2 => ⟨(hT b h2).1, (hT b h2).2.1, hI b h2 (by omega) (by omega), (hT b h2).2.2⟩⟩ (hT 98 (by omega)).1 (by rw [(hT 98 (by omega)).2.2])
theorem q4 {i : Nat} (h : i < 1000) : Int32.ofNat i / 4 = Int32.ofNat (i / 4) := j_div (m := i) (n := 4) (by omega) (by omega)
/-- how far the feeding is: class -/
def FP (I0 I : Nat → Nat → Int32) (f : Nat) (vs : Nat → Int32) (i : Nat) : Prop := (∀ b, b ≠ 96 → b ≠ 97 → I b = I0 b) ∧ (∀ j, j ≠ 16 → I 96 j = I0 96 j) ∧ I 96 16 = Int32.ofNat (f + i) ∧ (∀ j, j < f → I 97 j = I0 97 j) ∧ ∀ j, j < i → I 97 (f + j) &&& 255 = fb0 vs j &&& 255
theorem lp42 {H : gd_H} {I0 : Nat → Nat → Int32} {f a : Nat} {vs : Nat → Int32} (t96 : gT H 96 = 1) (r0 : gR H 96 0 = 97) (t97 : gT H 97 = 32) (l97 : gL H 97 = 600) (ta : gT H a = 31) (la : gL H a = 5) (ha : a ≠ 96 ∧ a ≠ 97) (va : ∀ k, k < 5 → I0 a k = vs k) (hf : f + 20 ≤ 600) (d : Nat) : ∀ (q i : Nat) (I : Nat → Nat → Int32) (w1 w2 w3 w4 w5 : Value), i + q = 20 → FP I0 I f vs i → ∃ I', go gd_P0 d 42 45 [.ref 96, w1, w2, w3, w4, w5, .ref a, .int (Int32.ofNat i)] [] (wI H I) = some (.inl (some (.int (Int32.ofNat (f + 20)))), wI H I') ∧ FP I0 I' f vs 20
  | 0, i, I, w1, w2, w3, w4, w5, hi, p => by
    have : i = 20 := by omega
    subst this
    exact ⟨I, by rw [s42_45, if_pos (show (20 : Int32) ≤ Int32.ofNat 20 from Int32.le_refl _), gT_wI, if_pos t96, gI_wI, p.2.2.1], p⟩
  | q + 1, i, I, w1, w2, w3, w4, w5, hi, p => by
    obtain ⟨p1, p2, p3, p4, p5⟩ := p
    have x1 : ¬ (Int32.ofNat (i / 4) < 0 ∨ 5 ≤ Int32.toNatClampNeg (Int32.ofNat (i / 4))) := by rw [j_ix (by omega) (by omega)]; exact trivial
    have x2 : ¬ (Int32.ofNat (f + i) < 0 ∨ 600 ≤ Int32.toNatClampNeg (Int32.ofNat (f + i))) := by rw [j_ix (by omega) (by omega)]; exact trivial
    have ea : up1 I 96 16 (Int32.ofNat (f + i) + 1) a (i / 4) = vs (i / 4) := by rw [up1_nc _ _ _ ha.1, p1 a ha.1 ha.2]; exact va _ (by omega)
    have eb : (vs (i / 4) >>> ((24 - (8 * (Int32.ofNat i - Int32.ofNat (i / 4) * 4))) &&& 31)) = fb0 vs i := rfl
    obtain ⟨I', e, p'⟩ := lp42 t96 r0 t97 l97 ta la ha va hf d q (i + 1) (up1 (up1 I 96 16 (Int32.ofNat (f + i) + 1)) 97 (f + i) (Int8.toInt32 (Int32.toInt8 (Int8.toInt32 (Int32.toInt8 (fb0 vs i)))))) .null .null .null .null .null (by omega) ⟨fun b h1 h2 => by rw [up1_nc _ _ _ h2, up1_nc _ _ _ h1]; exact p1 b h1 h2, fun j hj => by rw [up1_nc _ _ _ (by omega), up1_nj _ _ hj]; exact p2 j hj, by rw [up1_nc _ _ _ (by omega), up1_eq]; exact j_s _, fun j hj => by rw [up1_nj _ _ (by omega), up1_nc _ _ _ (by omega)]; exact p4 j hj, fun j hj => by
      by_cases z : j = i
      · subst z; rw [up1_eq]; exact by8 _
      · rw [up1_nj _ _ (by omega), up1_nc _ _ _ (by omega)]; exact p5 j (by omega)⟩
    refine ⟨I', ?_, p'⟩
    rw [s42_45, if_neg (by rw [show (20 : Int32) = Int32.ofNat 20 from rfl, j_le (by omega) (by omega)]; omega), gT_wI, if_pos t96, if_pos t96, if_pos t96, gL_wI, gR_wI, r0, q4 (by omega), la, if_pos ⟨ta, x1⟩, gI_wI, p3, l97, if_pos ⟨t97, x2⟩, j_cl (by omega), j_cl (by omega), ea, eb, wI_wI, j_s]
    exact e

/-! ===== THE CALL work: the model ===== -/
set_option maxRecDepth 100000
theorem lp68 {X : gdX} {E : gdE} {dm : Nat} {one : Nat → gdQ gdY} (hone : MYs X E 0 one dm) (hg : ∀ p, p ≤ xn X → QG X p (YG E p) (one p)) (hsk : ∀ p, p ≤ xn X → one (sk X p) = one p) (h15 : xn X ≤ 150) {d : Nat} (hd : dm ≤ d) (hd1 : 6 ≤ d) {h0 : gd_H} (hb : MB h0 X) (hS : SK h0) (hE : EM h0 E) : ∀ (f p : Nat) (h : gd_H) (a : gdY) (w1 w2 w3 : Value), xn X < f + p → p ≤ xn X → VWc 0 a.1 h0 h → 4 * a.1.length ≤ p →
    match wLp X 256 one f p a with
    | .inl (k, pl) => ∃ h', go gd_P0 d 208 68 [.ref 1231, w1, w2, w3] [] (mm h p 0) = go gd_P0 d 208 89 [.ref 1231, .null, .null, .null] [] h' ∧ ME h0 k pl h' ∧ pl ≤ xn X
    | .inr (p', b) => ∃ h', go gd_P0 d 208 68 [.ref 1231, w1, w2, w3] [] (mm h p 0) = go gd_P0 d 208 89 [.ref 1231, .null, .null, .null] [] (mm h' p' 0) ∧ VWc 0 b.1 h0 h' ∧ p' ≤ xn X
  | 0, p, h, a, w1, w2, w3, x0, x1, z, hl => absurd x0 (by omega)
  | f + 1, p, h, a, w1, w2, w3, x0, x1, z, hl => by
    have hb1 := hb.vw z
    have hS1 := hS.mz z.mz
    have hE1 := hE.vw z
    have hm := hb1.1
    have hX : XO X := hb.2.2.2
    have g1 := sk_ge X p
    have g2 := sk_le x1
    have t8 : ∀ q, gT (mm h q 0) 1231 = 8 := fun _ => hm.t
    have e256 := ch_256 hX (q := sk X p)
    rw [s208_68, if_pos (t8 _), m185 hb1 (by omega), gc_v, s208_72, if_neg ne_1, if_pos (t8 _), m186 hb1 (by omega) x1, gc_v, s208_79, wLp]
    by_cases c : ch X (sk X p) = 256
    · rw [if_pos c, if_neg (show ¬ sk X p < xn X by have := e256.mp c; omega), if_pos rfl]
      exact ⟨h, rfl, z, g2⟩
    · have lt : sk X p < xn X := by
        by_cases y : sk X p < xn X
        · exact y
        · exact absurd (e256.mpr (by omega)) c
      rw [if_neg c, if_pos lt, if_neg ne_1, if_pos (t8 _)]
      have y := hone d h (sk X p) (0 + a.1.length) hd hb1 hS1 hE1 z.c g2 (by omega)
      have g := hg p x1
      rw [hsk p x1] at y
      revert y g
      rcases one p with ⟨kk, pl⟩ | ⟨p', b⟩
      · rintro ⟨h', e, me⟩ g
        have me0 := me.mz z.z0
        have hbs := me0.bs hb.1 (by have := g.2; omega)
        exact ⟨h', by rw [e, gc_n, s208_86, s208_68, if_pos hbs.1.t, b185 hbs (by omega), gc_v, s208_72, if_pos rfl], me0, g.2⟩
      · rintro ⟨h2, e, w⟩ ⟨g3, g4, g5⟩
        rw [e, gc_n, s208_86, qb_r]
        exact lp68 hone hg hsk h15 hd hd1 hb hS hE f p' h2 (yAdd a b) .null .null .null (by omega) g4 (z.trans w) (by
          show 4 * (a.1 ++ b.1).length ≤ p'
          rw [List.length_append]
          have := g5.2
          omega)
/-- a row is copied, to a place -/
theorem cpy_st {f : Nat → Nat → Int32} {a b dp : Nat} (i : Nat) (hab : a ≠ b) : up1 (cpy f a 0 b dp i) b (dp + i) (cpy f a 0 b dp i a i) = cpy f a 0 b dp (i + 1) := by
  funext x j
  unfold up1 cpy
  by_cases hx : x = b
  · subst hx
    by_cases hj : j = dp + i
    · subst hj
      rw [if_pos ⟨rfl, rfl⟩, if_neg (fun z => hab z.1), if_pos ⟨rfl, by omega, by omega⟩]
      exact congrArg (f a) (by omega)
    · rw [if_neg (fun z => hj z.2)]
      by_cases hj2 : dp ≤ j ∧ j < dp + i
      · rw [if_pos ⟨rfl, by omega, by omega⟩, if_pos ⟨rfl, by omega, by omega⟩]
      · rw [if_neg (by omega), if_neg (by omega)]
  · rw [if_neg (fun z => hx z.1), if_neg (fun z => hx z.1), if_neg (fun z => hx z.1)]
theorem cpy_z {f : Nat → Nat → Int32} (a b dp : Nat) : cpy f a 0 b dp 0 = f := by
  funext x j
  unfold cpy
  rw [if_neg (by omega)]
theorem lp123 {h : gd_H} (hm : MS h) {I : Nat → Nat → Int32} {w : Nat} (i33 : I 1231 33 = Int32.ofNat w) (hw : w < 16) (d : Nat) : ∀ (q i : Nat), i + q = 50 → go gd_P0 d 208 123 [.ref 1231, .null, .null, .int (Int32.ofNat i)] [] (wI h (cpy I 1250 0 1252 (50 * w) i)) = go gd_P0 d 208 123 [.ref 1231, .null, .null, .int (Int32.ofNat 50)] [] (wI h (cpy I 1250 0 1252 (50 * w) 50))
  | 0, i, hi => by
    have : i = 50 := by omega
    rw [this]
  | q + 1, i, hi => by
    have ih := lp123 hm i33 hw d q (i + 1) (by omega)
    have t8 : ∀ I : Nat → Nat → Int32, gT (wI h I) 1231 = 8 := fun _ => hm.t
    have e33 : cpy I 1250 0 1252 (50 * w) i 1231 33 = Int32.ofNat w := by rw [cpy_ne _ (by omega)]; exact i33
    have q1 : (50 : Int32) * Int32.ofNat w = Int32.ofNat (50 * w) := j_mul 50 w
    have x1 : ¬ (Int32.ofNat i < 0 ∨ gL h 1250 ≤ Int32.toNatClampNeg (Int32.ofNat i)) := by rw [m_l38 hm, j_ix (by omega) (by omega)]; exact trivial
    have x2 : ¬ (Int32.ofNat (50 * w + i) < 0 ∨ gL h 1252 ≤ Int32.toNatClampNeg (Int32.ofNat (50 * w + i))) := by rw [m_l40 hm, j_ix (by omega) (by omega)]; exact trivial
    rw [s208_123, if_neg (by rw [show (50 : Int32) = Int32.ofNat 50 from rfl, j_le (by omega) (by omega)]; omega), if_pos (t8 _), if_pos (t8 _), if_pos (t8 _), gR_wI, m_r38 hm, m_r40 hm, gT_wI, gL_wI, if_pos ⟨m_t38 hm, x1⟩, gI_wI, e33, q1, j_add, if_pos ⟨m_t40 hm, x2⟩, j_s, j_cl (by omega), j_cl (by omega), wI_wI, cpy_st i (by omega)]
    exact ih
theorem MI.work {h F : gd_H} {D : gdD} {r : gdR} {v : Int32} (hi : MI h D) (hm : MS F) (hw : dW D < 16) (h1 : ∀ b, b = 1238 ∨ b = 1240 ∨ b = 1241 ∨ b = 1244 ∨ b = 1245 ∨ b = 1255 ∨ b = 1263 ∨ b = 1232 → gI F b = gI h b) (h2 : ∀ j, j = 20 ∨ j = 21 ∨ j = 28 ∨ j = 42 ∨ j = 45 ∨ j = 56 → gI F 1231 j = gI h 1231 j) (i33 : gI F 1231 33 = Int32.ofNat (dW D + 1)) (i34 : gI F 1231 34 = v) (i2 : gI F 1231 2 = 0) (i8 : gI F 1231 8 = -1) (hr : ∀ j, j < 50 → gI F 1250 j = r j) (hrows : ∀ k, k < dW D + 1 → ∀ j, j < 50 → gI F 1252 (50 * k + j) = dRow D k j) : MI F (dK D r v) := by
  obtain ⟨-, hBN, ⟨i1, i2', i3⟩, i4, i5, i6, i7, i8', ⟨i9, i9'⟩, ⟨i10, i11, i12⟩, ⟨t1, t2, t3⟩, fa, ⟨b1, b2, b3⟩, rs, ⟨r0, r1⟩, lw⟩ := hi
  refine ⟨hm, hBN, ⟨?_, ?_, ?_⟩, fun k hk => ?_, fun p hp => ?_, fun m hm => ?_, fun j hj => ?_, fun k hk j hj => ?_, ⟨i33, by show dW D + 1 ≤ 16; omega⟩, ⟨?_, i11, fun i hi => ?_⟩, ⟨i2, Nat.zero_le _, fun j hj => absurd hj (Nat.not_lt_zero j)⟩, i8, ⟨?_, b2, fun m hm => ?_⟩, i34, ⟨?_, ?_⟩, ?_⟩
  · rw [h2 20 (by omega)]; exact i1
  · rw [h2 21 (by omega)]; exact i2'
  · rw [h2 42 (by omega)]; exact i3
  · rw [h1 1238 (by omega)]; exact i4 k hk
  · rw [h1 1240 (by omega)]; exact i5 p hp
  · rw [h1 1241 (by omega)]; exact i6 m hm
  · rw [hr j hj]
    show r j = (if dW D + 1 = dW D + 1 then r else dRow D (dW D + 1)) j
    rw [if_pos rfl]
  · have hk : k < dW D + 1 := hk
    rw [hrows k hk j hj]
    show dRow D k j = (if k = dW D + 1 then r else dRow D k) j
    rw [if_neg (by omega)]
  · rw [h2 56 (by omega)]; exact i10
  · rw [h1 1263 (by omega)]; exact i12 i hi
  · rw [h2 45 (by omega)]; exact b1
  · rw [h1 1255 (by omega)]; exact b3 m hm
  · rw [h1 1232 (by omega)]; exact r0
  · rw [h1 1232 (by omega)]; exact r1
  · exact lw.fj (h2 28 (by omega)) (h1 1244 (by omega)) (h1 1245 (by omega))

/-! ===== THE CALL feed, both sides ===== -/
set_option maxRecDepth 100000
theorem x42 {D : gdD} (v1 v2 v3 v4 v5 : Int32) : XDo 42 [.int v1, .int v2, .int v3, .int v4, .int v5] D (FD D (vs5 v1 v2 v3 v4 v5)).1 (FD D (vs5 v1 v2 v3 v4 v5)).2 := by
  intro d h hd hi hD hS
  obtain ⟨d, rfl⟩ : ∃ e, d = e + 1 := ⟨d - 1, by omega⟩
  obtain ⟨hg, -, -, -, ⟨t1, t2, t3⟩, -, -, -, -, -, sz⟩ := id hi
  have T96 : gT h 96 = 1 := hg.1
  have q : (gI h 96 16 + 20 ≤ 600) = (dFed D + 20 ≤ 600) := by
    rw [t1, show Int32.ofNat (dFed D) + 20 = Int32.ofNat (dFed D + 20) from j_add (dFed D) 20]
    exact j_le (n := 600) (m := dFed D + 20) (by omega) (by omega)
  rw [r42, s42_0, if_pos T96]
  unfold FD
  by_cases c : dFed D + 20 ≤ 600
  · rw [if_pos c, if_pos (show gI h 96 16 + 20 ≤ 600 by rw [q]; exact c), show Int32.toNatClampNeg 5 = 5 from rfl]
    have tn : gT (nw h 31 5 5) (gS h) = 31 := by rw [gT_nw, if_pos rfl]
    have ln : gL (nw h 31 5 5) (gS h) = 5 := by rw [gL_nw, if_pos rfl]
    rw [ln, if_pos ⟨tn, by decide⟩, if_pos ⟨tn, by decide⟩, if_pos ⟨tn, by decide⟩, if_pos ⟨tn, by decide⟩, if_pos ⟨tn, by decide⟩]
    generalize eI : up1 (up1 (up1 (up1 (up1 (gI (nw h 31 5 5)) (gS h) (Int32.toNatClampNeg 0) v1) (gS h) (Int32.toNatClampNeg 1) v2) (gS h) (Int32.toNatClampNeg 2) v3) (gS h) (Int32.toNatClampNeg 3) v4) (gS h) (Int32.toNatClampNeg 4) v5 = I0
    have Ib : ∀ b, b < gS h → I0 b = gI h b := by
      intro b hb
      have z : b ≠ gS h := by omega
      rw [← eI, up1_nc _ _ _ z, up1_nc _ _ _ z, up1_nc _ _ _ z, up1_nc _ _ _ z, up1_nc _ _ _ z]
      funext j
      rw [gI_nw, if_neg z]
    have Iv : ∀ k, k < 5 → I0 (gS h) k = vs5 v1 v2 v3 v4 v5 k := by
      intro k hk
      have : k = 0 ∨ k = 1 ∨ k = 2 ∨ k = 3 ∨ k = 4 := by omega
      rw [← eI, show Int32.toNatClampNeg 0 = 0 from rfl, show Int32.toNatClampNeg 1 = 1 from rfl, show Int32.toNatClampNeg 2 = 2 from rfl, show Int32.toNatClampNeg 3 = 3 from rfl, show Int32.toNatClampNeg 4 = 4 from rfl]
      rcases this with rfl | rfl | rfl | rfl | rfl <;> simp [up1, vs5]
    have ob : ∀ b, b < gS h → gT (nw h 31 5 5) b = gT h b ∧ gL (nw h 31 5 5) b = gL h b ∧ gR (nw h 31 5 5) b = gR h b := by
      intro b hb
      have z : b ≠ gS h := by omega
      exact ⟨by rw [gT_nw, if_neg z], by rw [gL_nw, if_neg z], by funext j; rw [gR_nw, if_neg z]⟩
    obtain ⟨I', e, p1, p2, p3, p4, p5⟩ := lp42 (H := nw h 31 5 5) (I0 := I0) (f := dFed D) (a := gS h) (vs := vs5 v1 v2 v3 v4 v5) (by rw [(ob 96 (by omega)).1]; exact T96) (by rw [(ob 96 (by omega)).2.2]; exact x_r0 hg) (by rw [(ob 97 (by omega)).1]; exact x_t0 hg) (by rw [(ob 97 (by omega)).2.1]; exact x_l0 hg) tn ln (by omega) Iv c d 20 0 I0 (.int v1) (.int v2) (.int v3) (.int v4) (.int v5) rfl ⟨fun _ _ _ => rfl, fun _ _ => rfl, by rw [Ib 96 (by omega)]; exact t1, fun _ _ => rfl, fun j hj => absurd hj (Nat.not_lt_zero j)⟩
    refine ⟨_, e, hi.feed c (by show gS h ≤ gS h + 1; omega) ob (fun b h1 h2 h3 => (p1 b h2 h3).trans (Ib b h1)) (fun j hj => by show I' 96 j = _; rw [p2 j hj, Ib 96 (by omega)]) p3 (fun j hj => by show I' 97 j = _; rw [p4 j hj, Ib 97 (by omega)]) p5, ⟨by show gS h ≤ gS h + 1; omega, by show gS h + 1 ≤ _; omega, by show gU h + 5 ≤ _; omega⟩, fun b hb => ⟨(ob b (by omega)).1, (ob b (by omega)).2.1, (p1 b (by omega) (by omega)).trans (Ib b (by omega)), (ob b (by omega)).2.2⟩⟩
  · rw [if_neg c, if_neg (show ¬ gI h 96 16 + 20 ≤ 600 by rw [q]; exact c)]
    exact ⟨h, rfl, hi, (XQ.refl h).fx⟩
/-- how far the feeding is: model -/
def FQm (I0 I : Nat → Nat → Int32) (f : Nat) (vs : Nat → Int32) (i : Nat) : Prop := (∀ b, b ≠ 1231 → b ≠ 1233 → I b = I0 b) ∧ (∀ j, j ≠ 2 → I 1231 j = I0 1231 j) ∧ I 1231 2 = Int32.ofNat (f + i) ∧ (∀ j, j < f → I 1233 j = I0 1233 j) ∧ ∀ j, j < i → I 1233 (f + j) = fb0 vs j &&& 255
theorem lp180 {h : gd_H} (hm : MS h) {I0 : Nat → Nat → Int32} {f : Nat} (v1 v2 v3 v4 v5 : Int32) (hf : f + 20 ≤ 600) (d : Nat) : ∀ (q i : Nat) (I : Nat → Nat → Int32) (w : Value), i + q = 20 → FQm I0 I f (vs5 v1 v2 v3 v4 v5) i → ∃ I', go gd_P0 d 180 23 [.ref 1231, .int v1, .int v2, .int v3, .int v4, .int v5, .int (Int32.ofNat i), w] [] (wI h I) = some (.inl (some (.int (Int32.ofNat (f + 20)))), wI h I') ∧ FQm I0 I' f (vs5 v1 v2 v3 v4 v5) 20
  | 0, i, I, w, hi, p => by
    have : i = 20 := by omega
    subst this
    exact ⟨I, by rw [s180_23, if_pos (show (20 : Int32) ≤ Int32.ofNat 20 from Int32.le_refl _), gT_wI, if_pos hm.t, gI_wI, p.2.2.1], p⟩
  | q + 1, i, I, w, hi, p => by
    obtain ⟨p1, p2, p3, p4, p5⟩ := p
    have t8 : ∀ I : Nat → Nat → Int32, gT (wI h I) 1231 = 8 := fun _ => hm.t
    have le : ∀ n, n < 100 → (Int32.ofNat n ≤ Int32.ofNat i) = (n ≤ i) := fun n hn => j_le (by omega) (by omega)
    have q20 : ((20 : Int32) ≤ Int32.ofNat i) = (20 ≤ i) := le 20 (by omega)
    have q4' : ((4 : Int32) ≤ Int32.ofNat i) = (4 ≤ i) := le 4 (by omega)
    have q8 : ((8 : Int32) ≤ Int32.ofNat i) = (8 ≤ i) := le 8 (by omega)
    have q12 : ((12 : Int32) ≤ Int32.ofNat i) = (12 ≤ i) := le 12 (by omega)
    have q16 : ((16 : Int32) ≤ Int32.ofNat i) = (16 ≤ i) := le 16 (by omega)
    have x2 : ¬ (Int32.ofNat (f + i) < 0 ∨ gL h 1233 ≤ Int32.toNatClampNeg (Int32.ofNat (f + i))) := by rw [m_l9 hm, j_ix (by omega) (by omega)]; exact trivial
    have e0 : go gd_P0 d 180 23 [.ref 1231, .int v1, .int v2, .int v3, .int v4, .int v5, .int (Int32.ofNat i), w] [] (wI h I) = go gd_P0 d 180 76 [.ref 1231, .int v1, .int v2, .int v3, .int v4, .int v5, .int (Int32.ofNat i), .null] [.int (vs5 v1 v2 v3 v4 v5 (i / 4))] (wI h I) := by
      rw [s180_23, if_neg (by rw [q20]; omega)]
      by_cases c4 : 4 ≤ i
      · rw [if_pos (by rw [q4']; exact c4)]
        by_cases c8 : 8 ≤ i
        · rw [if_pos (by rw [q8]; exact c8)]
          by_cases c12 : 12 ≤ i
          · rw [if_pos (by rw [q12]; exact c12)]
            by_cases c16 : 16 ≤ i
            · rw [if_pos (by rw [q16]; exact c16), show vs5 v1 v2 v3 v4 v5 (i / 4) = v5 by unfold vs5; rw [if_neg (by omega), if_neg (by omega), if_neg (by omega), if_neg (by omega)]]
            · rw [if_neg (by rw [q16]; exact c16), show vs5 v1 v2 v3 v4 v5 (i / 4) = v4 by unfold vs5; rw [if_neg (by omega), if_neg (by omega), if_neg (by omega), if_pos (by omega)]]
          · rw [if_neg (by rw [q12]; exact c12), show vs5 v1 v2 v3 v4 v5 (i / 4) = v3 by unfold vs5; rw [if_neg (by omega), if_neg (by omega), if_pos (by omega)]]
        · rw [if_neg (by rw [q8]; exact c8), show vs5 v1 v2 v3 v4 v5 (i / 4) = v2 by unfold vs5; rw [if_neg (by omega), if_pos (by omega)]]
      · rw [if_neg (by rw [q4']; exact c4), show vs5 v1 v2 v3 v4 v5 (i / 4) = v1 by unfold vs5; rw [if_pos (by omega)]]
    have eb : (vs5 v1 v2 v3 v4 v5 (i / 4) >>> ((24 - (8 * (Int32.ofNat i - Int32.ofNat (i / 4) * 4))) &&& 31)) = fb0 (vs5 v1 v2 v3 v4 v5) i := rfl
    obtain ⟨I', e, p'⟩ := lp180 hm (I0 := I0) v1 v2 v3 v4 v5 hf d q (i + 1) (up1 (up1 I 1233 (f + i) (fb0 (vs5 v1 v2 v3 v4 v5) i &&& 255)) 1231 2 (Int32.ofNat (f + i) + 1)) (.int (vs5 v1 v2 v3 v4 v5 (i / 4))) (by omega) ⟨fun b h1 h2 => by rw [up1_nc _ _ _ h1, up1_nc _ _ _ h2]; exact p1 b h1 h2, fun j hj => by rw [up1_nj _ _ hj, up1_nc _ _ _ (by omega)]; exact p2 j hj, by rw [up1_eq]; exact j_s _, fun j hj => by rw [up1_nc _ _ _ (by omega), up1_nj _ _ (by omega)]; exact p4 j hj, fun j hj => by
      by_cases z : j = i
      · subst z; rw [up1_nc _ _ _ (by omega), up1_eq]
      · rw [up1_nc _ _ _ (by omega), up1_nj _ _ (by omega)]; exact p5 j (by omega)⟩
    refine ⟨I', ?_, p'⟩
    have e2 : up1 I 1233 (f + i) (fb0 (vs5 v1 v2 v3 v4 v5) i &&& 255) 1231 2 = Int32.ofNat (f + i) := by rw [up1_nc _ _ _ (by omega)]; exact p3
    rw [e0, s180_76, if_pos (t8 _), if_pos (t8 _), gR_wI, m_r9 hm, gT_wI, gL_wI, gI_wI, p3, if_pos ⟨m_t9 hm, x2⟩, if_pos hm.t, if_pos hm.t, q4 (by omega), j_cl (by omega), eb, e2, wI_wI, j_s]
    exact e
theorem m180 {D : gdD} (v1 v2 v3 v4 v5 : Int32) : MDo 180 [.int v1, .int v2, .int v3, .int v4, .int v5] D (FD D (vs5 v1 v2 v3 v4 v5)).1 (FD D (vs5 v1 v2 v3 v4 v5)).2 := by
  intro d h hd hi hD hS
  obtain ⟨d, rfl⟩ : ∃ e, d = e + 1 := ⟨d - 1, by omega⟩
  obtain ⟨hm, hBN, ⟨i1, i2, i3⟩, i4, i5, i6, i7, i8, ⟨i9, i9'⟩, ⟨i10, i11, i12⟩, ⟨t1, t2, t3⟩, fa, ⟨b1, b2, b3⟩, rs, ⟨r0, r1⟩, lw⟩ := id hi
  have e2 : up1 (gI h) 1231 0 0 1231 2 = Int32.ofNat (dFed D) := by rw [up1_nj _ _ (by omega)]; exact t1
  have q : (Int32.ofNat (dFed D) + 20 ≤ 600) = (dFed D + 20 ≤ 600) := by
    rw [show Int32.ofNat (dFed D) + 20 = Int32.ofNat (dFed D + 20) from j_add (dFed D) 20]
    exact j_le (n := 600) (m := dFed D + 20) (by omega) (by omega)
  rw [r180, s180_0, if_pos hm.t, if_pos hm.t, e2]
  unfold FD
  by_cases c : dFed D + 20 ≤ 600
  · rw [if_pos c, if_pos (show Int32.ofNat (dFed D) + 20 ≤ 600 by rw [q]; exact c)]
    obtain ⟨I', e, p1, p2, p3, p4, p5⟩ := lp180 hm (I0 := up1 (gI h) 1231 0 0) (f := dFed D) v1 v2 v3 v4 v5 c d 20 0 (up1 (gI h) 1231 0 0) .null rfl ⟨fun _ _ _ => rfl, fun _ _ => rfl, e2, fun _ _ => rfl, fun j hj => absurd hj (Nat.not_lt_zero j)⟩
    have f1 : ∀ b, b ≠ 1231 → b ≠ 1233 → I' b = gI h b := fun b h1 h2 => by rw [p1 b h1 h2, up1_nc _ _ _ h1]
    have fj : ∀ j, j ≠ 0 → j ≠ 2 → I' 1231 j = gI h 1231 j := fun j h1 h2 => by rw [p2 j h2, up1_nj _ _ h1]
    refine ⟨wI h I', e, ⟨hm, hBN, ⟨?_, ?_, ?_⟩, fun k hk => ?_, fun p hp => ?_, fun m hm => ?_, fun j hj => ?_, fun k hk j hj => ?_, ⟨?_, i9'⟩, ⟨?_, i11, fun i hi => ?_⟩, ⟨p3, c, fun j hj => ?_⟩, ?_, ⟨?_, b2, fun m hm => ?_⟩, ?_, ⟨?_, ?_⟩, ?_⟩, FM.wI _ _ fun b hb => f1 b (by omega) (by omega), by rw [gI_wI, p2 0 (by omega), up1_eq]⟩
    · exact (fj 20 (by omega) (by omega)).trans i1
    · exact (fj 21 (by omega) (by omega)).trans i2
    · exact (fj 42 (by omega) (by omega)).trans i3
    · show I' 1238 (2 * k) = _ ∧ I' 1238 (2 * k + 1) = _
      rw [f1 1238 (by omega) (by omega)]; exact i4 k hk
    · show I' 1240 p = _
      rw [f1 1240 (by omega) (by omega)]; exact i5 p hp
    · show I' 1241 m = _
      rw [f1 1241 (by omega) (by omega)]; exact i6 m hm
    · show I' 1250 j = _
      rw [f1 1250 (by omega) (by omega)]; exact i7 j hj
    · show I' 1252 (50 * k + j) = _
      rw [f1 1252 (by omega) (by omega)]; exact i8 k hk j hj
    · exact (fj 33 (by omega) (by omega)).trans i9
    · exact (fj 56 (by omega) (by omega)).trans i10
    · show dIw D i ≤ 16 ∧ I' 1263 _ = _ ∧ (∀ j, j < 50 → I' 1263 _ = _) ∧ ∀ k, k < dIw D i → ∀ j, j < 50 → I' 1263 _ = _
      rw [f1 1263 (by omega) (by omega)]; exact i12 i hi
    · have hj : j < dFed D + 20 := hj
      show I' 1233 j = if dFed D ≤ j ∧ j < dFed D + 20 then fb0 (vs5 v1 v2 v3 v4 v5) (j - dFed D) &&& 255 else dTp D j
      by_cases z : j < dFed D
      · rw [if_neg (by omega), p4 j z, up1_nc _ _ _ (by omega)]; exact t3 j z
      · rw [if_pos (by omega)]
        have := p5 (j - dFed D) (by omega)
        rw [show dFed D + (j - dFed D) = j by omega] at this
        exact this
    · exact (fj 8 (by omega) (by omega)).trans fa
    · exact (fj 45 (by omega) (by omega)).trans b1
    · show I' 1255 m = _
      rw [f1 1255 (by omega) (by omega)]; exact b3 m hm
    · exact (fj 34 (by omega) (by omega)).trans rs
    · show I' 1232 0 = _
      rw [f1 1232 (by omega) (by omega)]; exact r0
    · show I' 1232 1 = _
      rw [f1 1232 (by omega) (by omega)]; exact r1
    · exact lw.fj (fj 28 (by omega) (by omega)) (f1 1244 (by omega) (by omega)) (f1 1245 (by omega) (by omega))
  · rw [if_neg c, if_neg (show ¬ Int32.ofNat (dFed D) + 20 ≤ 600 by rw [q]; exact c)]
    obtain ⟨hz, e1, e2, e3, -⟩ := hi.z
    exact ⟨wI h (up1 (gI h) 1231 0 0), rfl, by rw [e1]; exact e2, FM.wI _ _ fun b hb => up1_nc _ _ _ (by omega), by rw [gI_wI, up1_eq]⟩

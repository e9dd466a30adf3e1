/-! ===== THE CALL work: the model, whole ===== -/
set_option maxRecDepth 100000
/-- the codes are run on the row -/
theorem m208e {h G : gd_H} {D : gdD} {n : Nat} {b : gdY} (hi : MI h D) (hD : DI D) (hw : dW D < 16) (fm : FM h G) (miG : MI G (dF0 D (-1))) (G5 : gI G 1231 5 = -1) (G0 : gI G 1231 0 = 0) (G32 : gI G 1231 32 = Int32.ofNat (3 * b.1.length)) (cm : CM (gI G 1248) 0 b.1) (w : wd (dE D) n false b.1 b.2) (hl : b.1.length ≤ 50) (hn : n ≤ 151) {d : Nat} (hd : 400 ≤ d) :
    ∃ F, go gd_P0 d 208 94 [.ref 1231, .null, .null, .null] [.int 0] G = some (.inl (some (.int (Int32.ofNat (b.2 (dNow D, 0, 0, 0)).2.2.1))), F) ∧ MI F (dK D (b.2 (dNow D, 0, 0, 0)).1 (Int32.ofNat (b.2 (dNow D, 0, 0, 0)).2.2.2)) ∧ FM h F ∧ gI F 1231 0 = 0 := by
  obtain ⟨hm, ⟨hB, hN⟩, ⟨i1, i2, i3⟩, i4, i5, i6, i7, i8, ⟨i9, i9'⟩, ⟨i10, i11, i12⟩, ⟨t1, t2, t3⟩, fa, ⟨b1, b2, b3⟩, rs, ⟨r0, r1⟩, lw⟩ := id miG
  have i7 : ∀ j, j < 50 → gI G 1250 j = dNow D j := i7
  have i8 : ∀ k, k < dW D → ∀ j, j < 50 → gI G 1252 (50 * k + j) = dRow D k j := i8
  have i9 : gI G 1231 33 = Int32.ofNat (dW D) := i9
  have t1 : gI G 1231 2 = 0 := t1
  have fa : gI G 1231 8 = -1 := fa
  have lw : MLx (gI G) (eL (dE D)) := lw
  generalize hL : b.1.length = L at *
  have t8 : ∀ I : Nat → Nat → Int32, gT (wI G I) 1231 = 8 := fun _ => hm.t
  -- the codes are kept, the row is kept
  have c1 := sp179 (h := G) (a := 1248) (b := 1249) (n := 3 * L) (m_t30 hm) (m_t31 hm) (m_l30 hm) (m_l31 hm) (by omega) (by omega) (by omega) (by omega) 1231 (d := d) (by omega)
  generalize eI1 : cpy (gI G) 1248 0 1249 0 (3 * L) = I1 at c1
  have I1b : ∀ q, q ≠ 1249 → I1 q = gI G q := fun q hq => by rw [← eI1]; exact cpy_ne _ hq
  have I133 : I1 1231 33 = Int32.ofNat (dW D) := by rw [I1b _ (by omega)]; exact i9
  have l123 := lp123 hm I133 hw d 50 0 (by omega)
  rw [cpy_z] at l123
  generalize eI2 : cpy I1 1250 0 1252 (50 * dW D) 50 = I2 at l123
  have I2b : ∀ q, q ≠ 1249 → q ≠ 1252 → I2 q = gI G q := fun q h1 h2 => by rw [← eI2, cpy_ne _ h2]; exact I1b q h1
  have I2r : ∀ k, k < dW D + 1 → ∀ j, j < 50 → I2 1252 (50 * k + j) = dRow D k j := by
    intro k hk j hj
    rw [← eI2]
    unfold cpy
    by_cases z : k = dW D
    · subst z
      rw [if_pos ⟨rfl, by omega, by omega⟩, I1b _ (by omega), show 0 + (50 * dW D + j - 50 * dW D) = j by omega]
      exact i7 j hj
    · rw [if_neg (by omega), I1b _ (by omega)]
      exact i8 k (by omega) j hj
  have I249 : ∀ i, i < 3 * L → I2 1249 i = gI G 1248 i := by
    intro i hi
    rw [← eI2, cpy_ne _ (by omega), ← eI1]
    exact cpy_in _ hi
  -- one more work, the row on trial
  generalize eI3 : up1 I2 1231 33 (I2 1231 33 + 1) = I3
  have I3b : ∀ q, q ≠ 1231 → I3 q = I2 q := fun q hq => by rw [← eI3]; exact up1_nc _ _ _ hq
  have I3j : ∀ j, j ≠ 33 → I3 1231 j = gI G 1231 j := fun j hj => by rw [← eI3, up1_nj _ _ hj, I2b 1231 (by omega) (by omega)]
  have I333 : I3 1231 33 = Int32.ofNat (dW D + 1) := by rw [← eI3, up1_eq, I2b 1231 (by omega) (by omega), i9]; exact j_s _
  have c4 := sp211 (h := wI G I3) hm (d := d) (by omega)
  rw [gI_wI, wI_wI] at c4
  generalize eI4 : tk I3 = I4 at c4
  have I4b : ∀ q, q ≠ 1251 → I4 q = I3 q := fun q hq => by rw [← eI4]; exact tk_ne hq
  have I451 : ∀ j, j < 50 → I4 1251 j = dNow D j := fun j hj => by
    rw [← eI4]
    refine (cpy_in _ hj).trans ?_
    rw [I3b 1250 (by omega), I2b 1250 (by omega) (by omega)]
    exact i7 j hj
  generalize eI5 : up1 (up1 (up1 I4 1231 35 0) 1231 36 0) 1231 37 0 = I5
  have I5b : ∀ q, q ≠ 1231 → I5 q = I4 q := fun q hq => by rw [← eI5, up1_nc _ _ _ hq, up1_nc _ _ _ hq, up1_nc _ _ _ hq]
  have I5j : ∀ j, j ≠ 35 → j ≠ 36 → j ≠ 37 → I5 1231 j = I3 1231 j := fun j h1 h2 h3 => by rw [← eI5, up1_nj _ _ h3, up1_nj _ _ h2, up1_nj _ _ h1, I4b 1231 (by omega)]
  have I5z : I5 1231 35 = Int32.ofNat 0 ∧ I5 1231 36 = Int32.ofNat 0 ∧ I5 1231 37 = Int32.ofNat 0 := by rw [← eI5]; simp [up1]
  have I5G : ∀ q, q ≠ 1231 → q ≠ 1249 → q ≠ 1251 → q ≠ 1252 → I5 q = gI G q := fun q h1 h2 h3 h4 => by rw [I5b q h1, I4b q h3, I3b q h1, I2b q h2 h4]
  have I5J : ∀ j, j ≠ 33 → j ≠ 35 → j ≠ 36 → j ≠ 37 → I5 1231 j = gI G 1231 j := fun j h0 h1 h2 h3 => by rw [I5j j h1 h2 h3, I3j j h0]
  have wm : WM I5 (dE D) (dNow D, 0, 0, 0) := by
    refine ⟨I5z, ⟨⟨⟨hB, hN⟩, ⟨?_, ?_, ?_⟩, fun k hk => ?_, fun q hq => ?_, fun m hm => ?_, fun j hj => ?_⟩, lw.fj (I5J 28 (by omega) (by omega) (by omega) (by omega)) (I5G 1244 (by omega) (by omega) (by omega) (by omega)) (I5G 1245 (by omega) (by omega) (by omega) (by omega))⟩, hD.1, hD.2.1 _ (Nat.le_refl _), by show 0 ≤ 200; omega, by show 0 + 0 ≤ 0; omega⟩
    · rw [I5J 20 (by omega) (by omega) (by omega) (by omega)]; exact i1
    · rw [I5J 21 (by omega) (by omega) (by omega) (by omega)]; exact i2
    · rw [I5J 42 (by omega) (by omega) (by omega) (by omega)]; exact i3
    · rw [I5G 1238 (by omega) (by omega) (by omega) (by omega)]; exact (i4 k hk).2
    · rw [I5G 1240 (by omega) (by omega) (by omega) (by omega)]; exact i5 q hq
    · rw [I5G 1241 (by omega) (by omega) (by omega) (by omega)]; exact i6 m hm
    · rw [I5b 1251 (by omega)]; exact I451 j hj
  have cm5 : CM (I5 1249) 0 b.1 := by
    refine CM_cg b.1 0 (fun i h1 h2 => ?_) cm
    rw [I5b 1249 (by omega), I4b 1249 (by omega), I3b 1249 (by omega)]
    exact I249 i (by omega)
  -- the run
  obtain ⟨d, rfl⟩ : ∃ e, d = e + 1 := ⟨d - 1, by omega⟩
  obtain ⟨I6, e6, w6, y6⟩ := (g2s hm (E := dE D) n).1 b.1 b.2 w d L 0 (by omega) hl (by omega) I5 _ wm cm5
  rw [hL, Nat.zero_add] at e6
  have e212 : run gd_P0 (d + 1) 212 [.ref 1231, .int 0, .int (Int32.ofNat (3 * L))] (wI G I5) = some (.inl none, wI G I6) := by
    rw [r212, s212_0, g212]
    exact Eq.trans e6 (g212e hm w6 hl (by omega) (Or.inl (Nat.le_refl _)) d _ _ _)
  have c7 := sp179 (h := wI G I6) (a := 1251) (b := 1250) (n := 50) (m_t39 hm) (m_t38 hm) (m_l39 hm) (m_l38 hm) (by omega) (by omega) (by omega) (by omega) 1231 (d := d + 1) (by omega)
  rw [gI_wI, wI_wI] at c7
  generalize eI7 : cpy I6 1251 0 1250 0 50 = I7 at c7
  have I7b : ∀ q, q ≠ 1250 → I7 q = I6 q := fun q hq => by rw [← eI7]; exact cpy_ne _ hq
  have I750 : ∀ j, j < 50 → I7 1250 j = (b.2 (dNow D, 0, 0, 0)).1 j := fun j hj => by
    rw [← eI7]
    exact (cpy_in _ hj).trans (w6.2.1.1.2.2.2.2.2 j hj)
  have I7G : ∀ q, q ≠ 1231 → q ≠ 1246 → q ≠ 1247 → q ≠ 1249 → q ≠ 1250 → q ≠ 1251 → q ≠ 1252 → q ≠ 1253 → I7 q = gI G q := fun q h1 h2 h3 h4 h5 h6 h7 h8 => by rw [I7b q h5, y6.1 q h1 h2 h3 h6 h8, I5G q h1 h4 h6 h7]
  have I7J : ∀ j, j ≠ 33 → j ≠ 35 → j ≠ 36 → j ≠ 37 → I7 1231 j = gI G 1231 j := fun j h0 h1 h2 h3 => by rw [I7b 1231 (by omega), y6.2 j h1 h2 h3, I5J j h0 h1 h2 h3]
  have I733 : I7 1231 33 = Int32.ofNat (dW D + 1) := by rw [I7b 1231 (by omega), y6.2 33 (by omega) (by omega) (by omega), I5j 33 (by omega) (by omega) (by omega)]; exact I333
  have I736 : I7 1231 36 = Int32.ofNat (b.2 (dNow D, 0, 0, 0)).2.2.1 := by rw [I7b 1231 (by omega)]; exact w6.1.2.1
  have I737 : I7 1231 37 = Int32.ofNat (b.2 (dNow D, 0, 0, 0)).2.2.2 := by rw [I7b 1231 (by omega)]; exact w6.1.2.2
  generalize eI8 : up1 I7 1231 34 (I7 1231 37) = I8
  have I8b : ∀ q, q ≠ 1231 → I8 q = I7 q := fun q hq => by rw [← eI8]; exact up1_nc _ _ _ hq
  have I8j : ∀ j, j ≠ 34 → I8 1231 j = I7 1231 j := fun j hj => by rw [← eI8]; exact up1_nj _ _ hj
  have I8G : ∀ q, q ≠ 1231 → q ≠ 1246 → q ≠ 1247 → q ≠ 1249 → q ≠ 1250 → q ≠ 1251 → q ≠ 1252 → q ≠ 1253 → I8 q = gI G q := fun q h1 h2 h3 h4 h5 h6 h7 h8 => by rw [I8b q h1]; exact I7G q h1 h2 h3 h4 h5 h6 h7 h8
  have I8J : ∀ j, j ≠ 33 → j ≠ 34 → j ≠ 35 → j ≠ 36 → j ≠ 37 → I8 1231 j = gI G 1231 j := fun j h0 h4 h1 h2 h3 => by rw [I8j j h4]; exact I7J j h0 h1 h2 h3
  refine ⟨wI G I8, ?_, ?_, fm.trans (FM.wI _ _ fun q hq => I8G q (by omega) (by omega) (by omega) (by omega) (by omega) (by omega) (by omega) (by omega)), ?_⟩
  · have e5 : I5 1231 32 = Int32.ofNat (3 * L) := by rw [I5J 32 (by omega) (by omega) (by omega) (by omega)]; exact G32
    have e5' : up1 (up1 (up1 I4 1231 35 0) 1231 36 0) 1231 37 0 1231 32 = Int32.ofNat (3 * L) := by rw [eI5]; exact e5
    have e36 : up1 I7 1231 34 (I7 1231 37) 1231 36 = Int32.ofNat (b.2 (dNow D, 0, 0, 0)).2.2.1 := by rw [up1_nj _ _ (by omega)]; exact I736
    have q50 : ((50 : Int32) ≤ Int32.ofNat 50) = True := eq_true (Int32.le_refl _)
    have l123 : go gd_P0 (d + 1) 208 123 [.ref 1231, .null, .null, .int 0] [] (wI G I1) = _ := l123
    rw [s208_94, if_pos hm.t, if_pos G5, if_pos hm.t, if_pos hm.t, if_pos hm.t, if_pos hm.t, m_r30 hm, m_r31 hm, G32, c1, gc_n, s208_121, l123, s208_123, if_pos (show (50 : Int32) ≤ Int32.ofNat 50 from Int32.le_refl _), if_pos (t8 _), if_pos (t8 _), if_pos (t8 _), gI_wI, wI_wI, eI3, c4, gc_n, s208_169, if_pos (t8 _), if_pos (t8 _), if_pos (t8 _), if_pos (t8 _), if_pos (t8 _), gI_wI, e5', wI_wI, eI5, e212, gc_n, s208_193, if_pos (t8 _), if_pos (t8 _), if_pos (t8 _), gR_wI, m_r39 hm, m_r38 hm, show (50 : Int32) = Int32.ofNat 50 from rfl, c7, gc_n, s208_207, if_pos (t8 _), if_pos (t8 _), if_pos (t8 _), gI_wI, e36, wI_wI, eI8]
  · have := MI.work (h := G) (F := wI G I8) (D := dF0 D (-1)) (r := (b.2 (dNow D, 0, 0, 0)).1) (v := Int32.ofNat (b.2 (dNow D, 0, 0, 0)).2.2.2) miG hm hw (fun q hq => I8G q (by omega) (by omega) (by omega) (by omega) (by omega) (by omega) (by omega) (by omega)) (fun j hj => I8J j (by omega) (by omega) (by omega) (by omega) (by omega)) (by rw [gI_wI, I8j 33 (by omega)]; exact I733) (by rw [gI_wI, ← eI8, up1_eq]; exact I737) (by rw [gI_wI, I8J 2 (by omega) (by omega) (by omega) (by omega) (by omega)]; exact t1) (by rw [gI_wI, I8J 8 (by omega) (by omega) (by omega) (by omega) (by omega)]; exact fa) (fun j hj => by rw [gI_wI, I8b 1250 (by omega)]; exact I750 j hj) (fun k hk j hj => by
      rw [gI_wI, I8b 1252 (by omega), I7b 1252 (by omega), y6.1 1252 (by omega) (by omega) (by omega) (by omega) (by omega), I5b 1252 (by omega), I4b 1252 (by omega), I3b 1252 (by omega)]
      exact I2r k hk j hj)
    exact this
  · rw [gI_wI, I8J 0 (by omega) (by omega) (by omega) (by omega) (by omega)]; exact G0

/-! ===== A SCHOOL'S CELLS; a door begins ===== -/
set_option maxRecDepth 100000
/-- an array made for a field -/
def ar1 (H : gd_H) (σ j n : Nat) : gd_H := wR (nw H 31 n n) (up1 (gR (nw H 31 n n)) σ j (gS H))
theorem gS_ar1 (H : gd_H) (σ j n : Nat) : gS (ar1 H σ j n) = gS H + 1 := rfl
theorem gU_ar1 (H : gd_H) (σ j n : Nat) : gU (ar1 H σ j n) = gU H + n := rfl
theorem gT_ar1 (H : gd_H) (σ j n b : Nat) : gT (ar1 H σ j n) b = if b = gS H then 31 else gT H b := rfl
theorem gL_ar1 (H : gd_H) (σ j n b : Nat) : gL (ar1 H σ j n) b = if b = gS H then n else gL H b := rfl
theorem gI_ar1 (H : gd_H) (σ j n b k : Nat) : gI (ar1 H σ j n) b k = if b = gS H then 0 else gI H b k := rfl
theorem gR_ar1 (H : gd_H) (σ j n b k : Nat) : gR (ar1 H σ j n) b k = if b = σ ∧ k = j then gS H else if b = gS H then 0 else gR H b k := rfl
/-- cells made later leave the earlier ones -/
def KA (σ m : Nat) (G G' : gd_H) : Prop := gS G ≤ gS G' ∧ (∀ b, b < gS G → gT G' b = gT G b ∧ gL G' b = gL G b ∧ gI G' b = gI G b ∧ (b ≠ σ → gR G' b = gR G b)) ∧ ∀ j, j < m → gR G' σ j = gR G σ j
theorem KA.trans {σ m m' : Nat} {G1 G2 G3 : gd_H} (a : KA σ m G1 G2) (b : KA σ m' G2 G3) (hm : m ≤ m') : KA σ m G1 G3 := by
  obtain ⟨a1, a2, a3⟩ := a
  obtain ⟨b1, b2, b3⟩ := b
  refine ⟨by omega, fun x hx => ?_, fun j hj => (b3 j (by omega)).trans (a3 j hj)⟩
  obtain ⟨x1, x2, x3, x4⟩ := a2 x hx
  obtain ⟨y1, y2, y3, y4⟩ := b2 x (by omega)
  exact ⟨y1.trans x1, y2.trans x2, y3.trans x3, fun z => (y4 z).trans (x4 z)⟩
theorem ar1_k {G : gd_H} {σ j n : Nat} (hG : σ < gS G) : KA σ j G (ar1 G σ j n) ∧ gS (ar1 G σ j n) = gS G + 1 ∧ gU (ar1 G σ j n) = gU G + n ∧ gR (ar1 G σ j n) σ j = gS G ∧ gT (ar1 G σ j n) (gS G) = 31 ∧ gL (ar1 G σ j n) (gS G) = n ∧ ∀ k, gI (ar1 G σ j n) (gS G) k = 0 := by
  refine ⟨⟨by rw [gS_ar1]; omega, fun b hb => ⟨by rw [gT_ar1, if_neg (by omega)], by rw [gL_ar1, if_neg (by omega)], funext fun k => by rw [gI_ar1, if_neg (by omega)], fun z => funext fun k => by rw [gR_ar1, if_neg (fun y => z y.1), if_neg (by omega)]⟩, fun k hk => by rw [gR_ar1, if_neg (by omega), if_neg (by omega)]⟩, rfl, rfl, by rw [gR_ar1, if_pos ⟨rfl, rfl⟩], by rw [gT_ar1, if_pos rfl], by rw [gL_ar1, if_pos rfl], fun k => by rw [gI_ar1, if_pos rfl]⟩
theorem ar1_f (G : gd_H) (σ j n : Nat) : wR (nw G 31 n n) (up1 (gR (nw G 31 n n)) σ j (gS G)) = ar1 G σ j n := rfl
theorem ar1_z (G : gd_H) (σ j n : Nat) : gS (nw G 31 n n) = gS (ar1 G σ j n) := rfl
/-- a school's cells are made -/
theorem sp171a {H : gd_H} {σ : Nat} (ht : gT H σ = 6) (hS : gS H = σ + 1) (h4 : 1223 < σ) (d : Nat) : ∃ H6, run gd_P0 (d + 1) 171 [.ref σ] H = go gd_P0 d 171 54 [.ref σ, .int 0] [] H6 ∧ SC H6 σ ∧ (gS H6 = σ + 7 ∧ gU H6 = gU H + 45) ∧ KA σ 0 H H6 ∧ (∀ k, gI H6 (σ + 1) k = 0) ∧ (∀ k, gI H6 (σ + 2) k = 0) ∧ (∀ k, gI H6 (σ + 3) k = 0) ∧ (∀ k, gI H6 (σ + 4) k = 0) ∧ (∀ k, gI H6 (σ + 5) k = 0) := by
  have n6 : Int32.toNatClampNeg 6 = 6 := rfl
  have n7 : Int32.toNatClampNeg 7 = 7 := rfl
  have n12 : Int32.toNatClampNeg 12 = 12 := rfl
  have tn : ∀ (G : gd_H) (n : Nat), gT G σ = 6 → σ < gS G → gT (nw G 31 n n) σ = 6 := fun G n h1 h2 => by rw [gT_nw, if_neg (by omega)]; exact h1
  have E0 : run gd_P0 (d + 1) 171 [.ref σ] H = go gd_P0 d 171 9 [.ref σ, .null] [.ref (gS H), .ref σ] (nw H 31 6 6) := by rw [r171, s171_0, if_pos (by omega), s171_4, n6]
  obtain ⟨k1, S1, U1, R1, T1, L1, I1⟩ := ar1_k (G := H) (σ := σ) (j := 0) (n := 6) (by omega)
  have E1 : go gd_P0 d 171 9 [.ref σ, .null] [.ref (gS H), .ref σ] (nw H 31 6 6) = go gd_P0 d 171 17 [.ref σ, .null] [.ref (gS (ar1 H σ 0 6)), .ref σ] (nw (ar1 H σ 0 6) 31 6 6) := by rw [s171_9, if_pos (tn H 6 ht (by omega)), n6, ar1_f, ar1_z H σ 0 6]
  generalize ar1 H σ 0 6 = H1 at *
  have t1 : gT H1 σ = 6 := (k1.2.1 σ (by omega)).1.trans ht
  obtain ⟨k2, S2, U2, R2, T2, L2, I2⟩ := ar1_k (G := H1) (σ := σ) (j := 1) (n := 6) (by omega)
  have E2 : go gd_P0 d 171 17 [.ref σ, .null] [.ref (gS H1), .ref σ] (nw H1 31 6 6) = go gd_P0 d 171 25 [.ref σ, .null] [.ref (gS (ar1 H1 σ 1 6)), .ref σ] (nw (ar1 H1 σ 1 6) 31 7 7) := by rw [s171_17, if_pos (tn H1 6 t1 (by omega)), n7, ar1_f, ar1_z H1 σ 1 6]
  generalize ar1 H1 σ 1 6 = H2 at *
  have t2 : gT H2 σ = 6 := (k2.2.1 σ (by omega)).1.trans t1
  obtain ⟨k3, S3, U3, R3, T3, L3, I3⟩ := ar1_k (G := H2) (σ := σ) (j := 2) (n := 7) (by omega)
  have E3 : go gd_P0 d 171 25 [.ref σ, .null] [.ref (gS H2), .ref σ] (nw H2 31 7 7) = go gd_P0 d 171 33 [.ref σ, .null] [.ref (gS (ar1 H2 σ 2 7)), .ref σ] (nw (ar1 H2 σ 2 7) 31 7 7) := by rw [s171_25, if_pos (tn H2 7 t2 (by omega)), n7, ar1_f, ar1_z H2 σ 2 7]
  generalize ar1 H2 σ 2 7 = H3 at *
  have t3 : gT H3 σ = 6 := (k3.2.1 σ (by omega)).1.trans t2
  obtain ⟨k4, S4, U4, R4, T4, L4, I4⟩ := ar1_k (G := H3) (σ := σ) (j := 3) (n := 7) (by omega)
  have E4 : go gd_P0 d 171 33 [.ref σ, .null] [.ref (gS H3), .ref σ] (nw H3 31 7 7) = go gd_P0 d 171 41 [.ref σ, .null] [.ref (gS (ar1 H3 σ 3 7)), .ref σ] (nw (ar1 H3 σ 3 7) 31 7 7) := by rw [s171_33, if_pos (tn H3 7 t3 (by omega)), n7, ar1_f, ar1_z H3 σ 3 7]
  generalize ar1 H3 σ 3 7 = H4 at *
  have t4 : gT H4 σ = 6 := (k4.2.1 σ (by omega)).1.trans t3
  obtain ⟨k5, S5, U5, R5, T5, L5, I5⟩ := ar1_k (G := H4) (σ := σ) (j := 4) (n := 7) (by omega)
  have E5 : go gd_P0 d 171 41 [.ref σ, .null] [.ref (gS H4), .ref σ] (nw H4 31 7 7) = go gd_P0 d 171 49 [.ref σ, .null] [.ref (gS (ar1 H4 σ 4 7)), .ref σ] (nw (ar1 H4 σ 4 7) 31 12 12) := by rw [s171_41, if_pos (tn H4 7 t4 (by omega)), n12, ar1_f, ar1_z H4 σ 4 7]
  generalize ar1 H4 σ 4 7 = H5 at *
  have t5 : gT H5 σ = 6 := (k5.2.1 σ (by omega)).1.trans t4
  obtain ⟨k6, S6, U6, R6, T6, L6, I6⟩ := ar1_k (G := H5) (σ := σ) (j := 5) (n := 12) (by omega)
  have E6 : go gd_P0 d 171 49 [.ref σ, .null] [.ref (gS H5), .ref σ] (nw H5 31 12 12) = go gd_P0 d 171 54 [.ref σ, .int 0] [] (ar1 H5 σ 5 12) := by rw [s171_49, if_pos (tn H5 12 t5 (by omega)), ar1_f]
  generalize ar1 H5 σ 5 12 = H6 at *
  have t6 : gT H6 σ = 6 := (k6.2.1 σ (by omega)).1.trans t5
  have q5 : KA σ 5 H5 H6 := k6
  have q4 : KA σ 4 H4 H6 := k5.trans q5 (by omega)
  have q3 : KA σ 3 H3 H6 := k4.trans q4 (by omega)
  have q2 : KA σ 2 H2 H6 := k3.trans q3 (by omega)
  have q1 : KA σ 1 H1 H6 := k2.trans q2 (by omega)
  have q0 : KA σ 0 H H6 := k1.trans q1 (by omega)
  rw [hS] at S1 R1 T1 L1 I1
  rw [S1] at S2 R2 T2 L2 I2
  rw [S2] at S3 R3 T3 L3 I3
  rw [S3] at S4 R4 T4 L4 I4
  rw [S4] at S5 R5 T5 L5 I5
  rw [S5] at S6 R6 T6 L6 I6
  have c1 := q1.2.1 (σ + 1) (by omega)
  have c2 := q2.2.1 (σ + 2) (by omega)
  have c3 := q3.2.1 (σ + 3) (by omega)
  have c4 := q4.2.1 (σ + 4) (by omega)
  have c5 := q5.2.1 (σ + 5) (by omega)
  have r0 : gR H6 σ 0 = σ + 1 := (q1.2.2 0 (by omega)).trans R1
  have r1 : gR H6 σ 1 = σ + 2 := (q2.2.2 1 (by omega)).trans R2
  have r2 : gR H6 σ 2 = σ + 3 := (q3.2.2 2 (by omega)).trans R3
  have r3 : gR H6 σ 3 = σ + 4 := (q4.2.2 3 (by omega)).trans R4
  have r4 : gR H6 σ 4 = σ + 5 := (q5.2.2 4 (by omega)).trans R5
  have r5 : gR H6 σ 5 = σ + 6 := R6
  have T6 : gT H6 (σ + 6) = 31 := T6
  have L6 : gL H6 (σ + 6) = 12 := L6
  refine ⟨H6, E0.trans (E1.trans (E2.trans (E3.trans (E4.trans (E5.trans E6))))), ⟨h4, t6, ⟨r0, c1.1.trans T1, c1.2.1.trans L1⟩, ⟨r1, c2.1.trans T2, c2.2.1.trans L2⟩, ⟨r2, c3.1.trans T3, c3.2.1.trans L3⟩, ⟨r3, c4.1.trans T4, c4.2.1.trans L4⟩, ⟨r4, c5.1.trans T5, c5.2.1.trans L5⟩, ⟨r5, T6, L6⟩⟩, ⟨S6, ?_⟩, q0, fun k => by rw [c1.2.2.1]; exact I1 k, fun k => by rw [c2.2.2.1]; exact I2 k, fun k => by rw [c3.2.2.1]; exact I3 k, fun k => by rw [c4.2.2.1]; exact I4 k, fun k => by rw [c5.2.2.1]; exact I5 k⟩
  rw [U6, U5, U4, U3, U2, U1]
theorem sp171 {H : gd_H} {σ : Nat} (ht : gT H σ = 6) (hS : gS H = σ + 1) (h4 : 1223 < σ) {d : Nat} (hd : 1 ≤ d) : ∃ H', run gd_P0 d 171 [.ref σ] H = some (.inl none, H') ∧ SC H' σ ∧ (gS H' = σ + 7 ∧ gU H' = gU H + 45) ∧ (∀ b, b ≤ σ → gT H' b = gT H b ∧ gL H' b = gL H b ∧ gI H' b = gI H b ∧ (b ≠ σ → gR H' b = gR H b)) ∧ (∀ j k, 1 ≤ j → j ≤ 5 → gI H' (σ + j) k = 0) ∧ ∀ k, k < 12 → gI H' (σ + 6) k = 3 := by
  obtain ⟨d, rfl⟩ : ∃ e, d = e + 1 := ⟨d - 1, by omega⟩
  obtain ⟨H6, E, sc, ⟨S6, U6⟩, q0, I1, I2, I3, I4, I5⟩ := sp171a ht hS h4 d
  obtain ⟨-, t6, -, -, -, -, -, ⟨r5, T6, L6⟩⟩ := id sc
  have A := lp_e (fun i I => go gd_P0 d 171 54 [.ref σ, .int (Int32.ofNat i)] [] (wI H6 I)) (fun i I => (∀ b, b ≠ σ + 6 → I b = gI H6 b) ∧ ∀ k, k < i → I (σ + 6) k = 3) 12 (gI H6) ⟨fun _ _ => rfl, fun k hk => absurd hk (Nat.not_lt_zero k)⟩ ?_
  · obtain ⟨I', e, i1, i2⟩ := A
    have e : go gd_P0 d 171 54 [.ref σ, .int 0] [] H6 = go gd_P0 d 171 54 [.ref σ, .int 12] [] (wI H6 I') := e
    refine ⟨wI H6 I', ?_, sc, ⟨S6, U6⟩, fun b hb => ?_, fun j k j1 j2 => ?_, i2⟩
    · rw [E, e, s171_54, if_pos (by decide)]
    · obtain ⟨x1, x2, x3, x4⟩ := q0.2.1 b (by omega)
      exact ⟨x1, x2, (i1 b (by omega)).trans x3, x4⟩
    · have : j = 1 ∨ j = 2 ∨ j = 3 ∨ j = 4 ∨ j = 5 := by omega
      rw [gI_wI, i1 _ (by omega)]
      rcases this with rfl | rfl | rfl | rfl | rfl
      · exact I1 k
      · exact I2 k
      · exact I3 k
      · exact I4 k
      · exact I5 k
  · intro i hi I ⟨i1, i2⟩
    refine ⟨up1 I (σ + 6) i 3, ?_, fun b hb => by rw [up1_nc _ _ _ hb]; exact i1 b hb, fun k hk => ?_⟩
    · try dsimp only
      rw [s171_54, if_neg (by rw [show (12 : Int32) = Int32.ofNat 12 from rfl, j_le (by omega) (by omega)]; omega), gT_wI, if_pos t6, gR_wI, r5, gL_wI, L6, if_pos ⟨T6, by rw [j_ix (by omega) (by omega)]; exact trivial⟩, j_cl (by omega), j_s, wI_wI, gI_wI]
    · by_cases z : k = i
      · rw [z, up1_eq]
      · rw [up1_nj _ _ z]; exact i2 k (by omega)
/-- a door begins by a school -/
theorem sp148 {h : gd_H} {a σ : Nat} (ha : SA h a) (hs : SC h σ) {d : Nat} (hd : 1 ≤ d) : ∃ I', run gd_P0 d 148 [.ref a, .ref σ] h = some (.inl none, wR (wI h I') (up1 (gR h) a 9 σ)) ∧ (I' a 10 = 0 ∧ I' a 11 = 0 ∧ I' a 12 = 0 ∧ I' a 13 = -1) ∧ (∀ k, k < 6 → I' (a + 1) k = gI h (σ + 1) k) ∧ (∀ p, p < 7 → I' (a + 2) p = gI h (σ + 3) p ∧ I' (a + 3) p = gI h (σ + 4) p ∧ I' (a + 4) p = -1 ∧ I' (a + 5) p = 0 ∧ I' (a + 6) p = -1) ∧ ∀ b, b < a ∨ a + 6 < b → I' b = gI h b := by
  obtain ⟨d, rfl⟩ : ∃ e, d = e + 1 := ⟨d - 1, by omega⟩
  obtain ⟨⟨a1, a2⟩, ⟨ta, ra8, t98⟩, ⟨ra0, ta1, la1⟩, ⟨ra1, ta2, la2⟩, ⟨ra2, ta3, la3⟩, ⟨ra3, ta4, la4⟩, ⟨ra4, ta5, la5⟩, ⟨ra5, ta6, la6⟩, -⟩ := ha
  obtain ⟨s1, ts, ⟨rs0, ts1, ls1⟩, ⟨rs1, ts2, ls2⟩, ⟨rs2, ts3, ls3⟩, ⟨rs3, ts4, ls4⟩, ⟨rs4, ts5, ls5⟩, ⟨rs5, ts6, ls6⟩⟩ := hs
  have n0 : Int32.toNatClampNeg 0 = 0 := rfl
  have n6 : Int32.toNatClampNeg 6 = 6 := rfl
  have n7 : Int32.toNatClampNeg 7 = 7 := rfl
  generalize eG : wR h (up1 (gR h) a 9 σ) = G
  have GT : gT G = gT h := by rw [← eG]; rfl
  have GL : gL G = gL h := by rw [← eG]; rfl
  have GI : gI G = gI h := by rw [← eG]; rfl
  have GRa : ∀ j, j ≠ 9 → gR G a j = gR h a j := fun j hj => by rw [← eG, gR_wR, up1_nj _ _ hj]
  have GRs : gR G σ = gR h σ := by rw [← eG, gR_wR, up1_nc _ _ _ (by omega)]
  have us : up1 (gR h) a 9 σ σ 0 = σ + 1 := by rw [up1_nc _ _ _ (by omega)]; exact rs0
  have ua : up1 (gR h) a 9 σ a 0 = a + 1 := by rw [up1_nj _ _ (by omega)]; exact ra0
  -- three rows are laid
  generalize eI0 : up1 (up1 (up1 (up1 (gI h) a 10 0) a 11 0) a 12 0) a 13 (-1) = I0
  generalize eI1 : cpy I0 (σ + 1) 0 (a + 1) 0 6 = I1
  generalize eI2 : cpy I1 (σ + 3) 0 (a + 2) 0 7 = I2
  generalize eI3 : cpy I2 (σ + 4) 0 (a + 3) 0 7 = I3
  have b0 : ∀ b, b ≠ a → I0 b = gI h b := fun b hb => by rw [← eI0, up1_nc _ _ _ hb, up1_nc _ _ _ hb, up1_nc _ _ _ hb, up1_nc _ _ _ hb]
  have b3 : ∀ b, b ≠ a → b ≠ a + 1 → b ≠ a + 2 → b ≠ a + 3 → I3 b = gI h b := fun b h0 h1 h2 h3 => by rw [← eI3, cpy_ne _ h3, ← eI2, cpy_ne _ h2, ← eI1, cpy_ne _ h1]; exact b0 b h0
  have c1 : ∀ k, k < 6 → I3 (a + 1) k = gI h (σ + 1) k := fun k hk => by rw [← eI3, cpy_ne _ (by omega), ← eI2, cpy_ne _ (by omega), ← eI1, cpy_in _ hk, b0 _ (by omega)]
  have c2 : ∀ k, k < 7 → I3 (a + 2) k = gI h (σ + 3) k := fun k hk => by rw [← eI3, cpy_ne _ (by omega), ← eI2, cpy_in _ hk, ← eI1, cpy_ne _ (by omega), b0 _ (by omega)]
  have c3 : ∀ k, k < 7 → I3 (a + 3) k = gI h (σ + 4) k := fun k hk => by rw [← eI3, cpy_in _ hk, ← eI2, cpy_ne _ (by omega), ← eI1, cpy_ne _ (by omega), b0 _ (by omega)]
  have ca : I3 a 10 = 0 ∧ I3 a 11 = 0 ∧ I3 a 12 = 0 ∧ I3 a 13 = -1 := by
    rw [← eI3, cpy_ne _ (by omega), ← eI2, cpy_ne _ (by omega), ← eI1, cpy_ne _ (by omega), ← eI0]
    simp [up1]
  have A := lp_e (fun i I => go gd_P0 d 148 72 [.ref a, .null, .int (Int32.ofNat i)] [] (wI G I)) (fun i I => (∀ b, b ≠ a + 4 → b ≠ a + 5 → b ≠ a + 6 → I b = I3 b) ∧ ∀ p, p < i → I (a + 4) p = -1 ∧ I (a + 5) p = 0 ∧ I (a + 6) p = -1) 7 I3 ⟨fun _ _ _ _ => rfl, fun k hk => absurd hk (Nat.not_lt_zero k)⟩ ?_
  · obtain ⟨I', e, i1, i2⟩ := A
    have e : go gd_P0 d 148 72 [.ref a, .null, .int 0] [] (wI G I3) = go gd_P0 d 148 72 [.ref a, .null, .int 7] [] (wI G I') := e
    refine ⟨I', ?_, ?_, fun k hk => ?_, fun p hp => ⟨?_, ?_, i2 p hp⟩, fun b hb => ?_⟩
    · have g1 : (gT h (σ + 1) = 31 ∧ gT h (a + 1) = 31) ∧ ((¬ (0 : Int32) < 0 ∧ ¬ (0 : Int32) < 0) ∧ (¬ (6 : Int32) < 0 ∧ (Int32.toNatClampNeg 0 + Int32.toNatClampNeg 6 ≤ gL h (σ + 1) ∧ Int32.toNatClampNeg 0 + Int32.toNatClampNeg 6 ≤ gL h (a + 1)))) := ⟨⟨ts1, ta1⟩, ⟨by decide, by decide⟩, by decide, by rw [ls1]; decide, by rw [la1]; decide⟩
      have g2 : (gT h (σ + 3) = 31 ∧ gT h (a + 2) = 31) ∧ ((¬ (0 : Int32) < 0 ∧ ¬ (0 : Int32) < 0) ∧ (¬ (7 : Int32) < 0 ∧ (Int32.toNatClampNeg 0 + Int32.toNatClampNeg 7 ≤ gL h (σ + 3) ∧ Int32.toNatClampNeg 0 + Int32.toNatClampNeg 7 ≤ gL h (a + 2)))) := ⟨⟨ts3, ta2⟩, ⟨by decide, by decide⟩, by decide, by rw [ls3]; decide, by rw [la2]; decide⟩
      have g3 : (gT h (σ + 4) = 31 ∧ gT h (a + 3) = 31) ∧ ((¬ (0 : Int32) < 0 ∧ ¬ (0 : Int32) < 0) ∧ (¬ (7 : Int32) < 0 ∧ (Int32.toNatClampNeg 0 + Int32.toNatClampNeg 7 ≤ gL h (σ + 4) ∧ Int32.toNatClampNeg 0 + Int32.toNatClampNeg 7 ≤ gL h (a + 3)))) := ⟨⟨ts4, ta3⟩, ⟨by decide, by decide⟩, by decide, by rw [ls4]; decide, by rw [la3]; decide⟩
      have w0 : wR (wI h (cpy I0 (σ + 1) 0 (a + 1) 0 6)) (up1 (gR h) a 9 σ) = wI G I1 := by rw [← eG, eI1]; rfl
      rw [r148, s148_0, if_pos ta, if_pos ta, if_pos ta, if_pos ta, if_pos ta, if_pos ts, if_pos ta, us, ua, if_pos g1, eI0, n0, n6, w0, s148_40, gT_wI, gR_wI, gL_wI, GT, GL, if_pos ts, if_pos ta, GRs, rs2, GRa 1 (by omega), ra1, if_pos g2, n0, n7, gI_wI, wI_wI, eI2, s148_55, gT_wI, gR_wI, gL_wI, GT, GL, if_pos ts, if_pos ta, GRs, rs3, GRa 2 (by omega), ra2, if_pos g3, n0, n7, gI_wI, wI_wI, eI3, s148_70, e, s148_72, if_pos (by decide)]
      rw [← eG]
      rfl
    · rw [i1 a (by omega) (by omega) (by omega)]; exact ca
    · rw [i1 _ (by omega) (by omega) (by omega)]; exact c1 k hk
    · rw [i1 _ (by omega) (by omega) (by omega)]; exact c2 p hp
    · rw [i1 _ (by omega) (by omega) (by omega)]; exact c3 p hp
    · rw [i1 _ (by omega) (by omega) (by omega)]; exact b3 b (by omega) (by omega) (by omega) (by omega)
  · intro i hi I ⟨i1, i2⟩
    have ix : ∀ y, gT h y = 31 → gL h y = 7 → gT h y = 31 ∧ ¬ (Int32.ofNat i < 0 ∨ gL h y ≤ (Int32.ofNat i).toNatClampNeg) := fun y h1 h2 => ⟨h1, by rw [h2, j_ix (by omega) (by omega)]; exact trivial⟩
    refine ⟨up1 (up1 (up1 I (a + 4) i (-1)) (a + 5) i 0) (a + 6) i (-1), ?_, fun b h1 h2 h3 => by rw [up1_nc _ _ _ h3, up1_nc _ _ _ h2, up1_nc _ _ _ h1]; exact i1 b h1 h2 h3, fun p hp => ?_⟩
    · try dsimp only
      rw [s148_72, if_neg (by rw [show (7 : Int32) = Int32.ofNat 7 from rfl, j_le (by omega) (by omega)]; omega), gT_wI, gR_wI, gL_wI, GT, GL, if_pos ta, GRa 3 (by omega), ra3, if_pos (ix _ ta4 la4), if_pos ta, GRa 4 (by omega), ra4, if_pos (ix _ ta5 la5), if_pos ta, GRa 5 (by omega), ra5, if_pos (ix _ ta6 la6), j_cl (by omega), j_s, wI_wI, gI_wI]
    · by_cases z : p = i
      · subst z
        refine ⟨?_, ?_, ?_⟩
        · rw [up1_nc _ _ _ (by omega), up1_nc _ _ _ (by omega), up1_eq]
        · rw [up1_nc _ _ _ (by omega), up1_eq]
        · rw [up1_eq]
      · rw [up1_nj _ _ z, up1_nj _ _ z, up1_nj _ _ z, up1_nj _ _ z, up1_nj _ _ z, up1_nj _ _ z, up1_nj _ _ z, up1_nj _ _ z, up1_nj _ _ z]
        exact i2 p (by omega)

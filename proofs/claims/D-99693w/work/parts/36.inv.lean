/-! ===== WHAT BOTH SIDES HOLD ===== -/
set_option maxRecDepth 100000
/-- school and law, rows of the door (the last one is now), works, images (how many works each, their rows), tape, fault's place, book, refused steps, refusals -/
abbrev gdD : Type := gdE × (Nat → gdR) × Nat × (Nat × (Nat → Nat) × (Nat → Nat → gdR)) × (Nat × (Nat → Int32)) × Int32 × (Nat × (Nat → Int32)) × Int32 × Int32 × Int32
def dE (D : gdD) : gdE := D.1
def dRow (D : gdD) : Nat → gdR := D.2.1
def dW (D : gdD) : Nat := D.2.2.1
def dNi (D : gdD) : Nat := D.2.2.2.1.1
def dIw (D : gdD) : Nat → Nat := D.2.2.2.1.2.1
def dIr (D : gdD) : Nat → Nat → gdR := D.2.2.2.1.2.2
def dFed (D : gdD) : Nat := D.2.2.2.2.1.1
def dTp (D : gdD) : Nat → Int32 := D.2.2.2.2.1.2
def dFa (D : gdD) : Int32 := D.2.2.2.2.2.1
def dNb (D : gdD) : Nat := D.2.2.2.2.2.2.1.1
def dBk (D : gdD) : Nat → Int32 := D.2.2.2.2.2.2.1.2
def dRs (D : gdD) : Int32 := D.2.2.2.2.2.2.2.1
def dR0 (D : gdD) : Int32 := D.2.2.2.2.2.2.2.2.1
def dR1 (D : gdD) : Int32 := D.2.2.2.2.2.2.2.2.2
def dNow (D : gdD) : gdR := dRow D (dW D)
/-- a call was refused: 24 nobody, 25 bad -/
def dRef (D : gdD) (t : Nat) : gdD := (D.1, D.2.1, D.2.2.1, D.2.2.2.1, D.2.2.2.2.1, D.2.2.2.2.2.1, D.2.2.2.2.2.2.1, D.2.2.2.2.2.2.2.1, if t = 24 then D.2.2.2.2.2.2.2.2.1 + 1 else D.2.2.2.2.2.2.2.2.1, if t = 25 then D.2.2.2.2.2.2.2.2.2 + 1 else D.2.2.2.2.2.2.2.2.2)
/-- what holds of them -/
def RJ (E : gdE) (r : gdR) : Prop := ∃ m, m ≤ 400 ∧ RI E m r
def DI (D : gdD) : Prop := EI (dE D) ∧ (∀ k, k ≤ dW D → RJ (dE D) (dRow D k)) ∧ (∀ i, i < dNi D → ∀ k, k ≤ dIw D i → RJ (dE D) (dIr D i k)) ∧ (∀ j, j < dFed D → ∃ v, v ≤ 255 ∧ dTp D j = Int32.ofNat v)
def xgT : List (Nat × Nat × Nat) := [(0, 97, 32), (1, 98, 2), (2, 99, 3), (3, 373, 36), (4, 1196, 4), (5, 1212, 7), (6, 1215, 5), (7, 1216, 31), (8, 1217, 31), (9, 1218, 31), (10, 1219, 31), (11, 1220, 31), (12, 1221, 31), (13, 1222, 31), (14, 1223, 34)]
def xgL : List (Nat × Nat) := [(97, 600), (373, 3), (1216, 2), (1217, 6), (1218, 6), (1219, 13), (1220, 1000), (1221, 7), (1222, 7), (1223, 13)]
/-- the class's cells -/
def XG (h : gd_H) : Prop := gT h 96 = 1 ∧ (∀ e ∈ xgT, gR h 96 e.1 = e.2.1 ∧ gT h e.2.1 = e.2.2) ∧ (∀ e ∈ xgL, gL h e.1 = e.2) ∧ (gR h 99 0 = 100 ∧ gT h 100 = 35 ∧ gL h 100 = 17) ∧ (∀ k, k < 17 → gR h 100 k = 101 + 16 * k) ∧
  (∀ i, i < 3 → gR h 373 i = 374 + 274 * i ∧ gT h (374 + 274 * i) = 3 ∧ gR h (374 + 274 * i) 0 = 375 + 274 * i ∧ gT h (375 + 274 * i) = 35 ∧ gL h (375 + 274 * i) = 17 ∧ ∀ k, k < 17 → gR h (375 + 274 * i) k = 376 + 274 * i + 16 * k) ∧
  (gR h 1212 0 = 1213 ∧ gT h 1213 = 31 ∧ gL h 1213 = 7 ∧ gR h 1212 1 = 1214 ∧ gT h 1214 = 31 ∧ gL h 1214 = 7) ∧ (∀ k, k < 17 → SA h (101 + 16 * k)) ∧ (∀ i, i < 3 → ∀ k, k < 17 → SA h (376 + 274 * i + 16 * k)) ∧ SA h 1196
theorem x_r0 {h : gd_H} (hg : XG h) : gR h 96 0 = 97 := (hg.2.1 _ (List.mem_of_getElem? (i := 0) rfl)).1
theorem x_t0 {h : gd_H} (hg : XG h) : gT h 97 = 32 := (hg.2.1 _ (List.mem_of_getElem? (i := 0) rfl)).2
theorem x_r1 {h : gd_H} (hg : XG h) : gR h 96 1 = 98 := (hg.2.1 _ (List.mem_of_getElem? (i := 1) rfl)).1
theorem x_t1 {h : gd_H} (hg : XG h) : gT h 98 = 2 := (hg.2.1 _ (List.mem_of_getElem? (i := 1) rfl)).2
theorem x_r2 {h : gd_H} (hg : XG h) : gR h 96 2 = 99 := (hg.2.1 _ (List.mem_of_getElem? (i := 2) rfl)).1
theorem x_t2 {h : gd_H} (hg : XG h) : gT h 99 = 3 := (hg.2.1 _ (List.mem_of_getElem? (i := 2) rfl)).2
theorem x_r3 {h : gd_H} (hg : XG h) : gR h 96 3 = 373 := (hg.2.1 _ (List.mem_of_getElem? (i := 3) rfl)).1
theorem x_t3 {h : gd_H} (hg : XG h) : gT h 373 = 36 := (hg.2.1 _ (List.mem_of_getElem? (i := 3) rfl)).2
theorem x_r4 {h : gd_H} (hg : XG h) : gR h 96 4 = 1196 := (hg.2.1 _ (List.mem_of_getElem? (i := 4) rfl)).1
theorem x_t4 {h : gd_H} (hg : XG h) : gT h 1196 = 4 := (hg.2.1 _ (List.mem_of_getElem? (i := 4) rfl)).2
theorem x_r5 {h : gd_H} (hg : XG h) : gR h 96 5 = 1212 := (hg.2.1 _ (List.mem_of_getElem? (i := 5) rfl)).1
theorem x_t5 {h : gd_H} (hg : XG h) : gT h 1212 = 7 := (hg.2.1 _ (List.mem_of_getElem? (i := 5) rfl)).2
theorem x_r6 {h : gd_H} (hg : XG h) : gR h 96 6 = 1215 := (hg.2.1 _ (List.mem_of_getElem? (i := 6) rfl)).1
theorem x_t6 {h : gd_H} (hg : XG h) : gT h 1215 = 5 := (hg.2.1 _ (List.mem_of_getElem? (i := 6) rfl)).2
theorem x_r7 {h : gd_H} (hg : XG h) : gR h 96 7 = 1216 := (hg.2.1 _ (List.mem_of_getElem? (i := 7) rfl)).1
theorem x_t7 {h : gd_H} (hg : XG h) : gT h 1216 = 31 := (hg.2.1 _ (List.mem_of_getElem? (i := 7) rfl)).2
theorem x_r8 {h : gd_H} (hg : XG h) : gR h 96 8 = 1217 := (hg.2.1 _ (List.mem_of_getElem? (i := 8) rfl)).1
theorem x_t8 {h : gd_H} (hg : XG h) : gT h 1217 = 31 := (hg.2.1 _ (List.mem_of_getElem? (i := 8) rfl)).2
theorem x_r9 {h : gd_H} (hg : XG h) : gR h 96 9 = 1218 := (hg.2.1 _ (List.mem_of_getElem? (i := 9) rfl)).1
theorem x_t9 {h : gd_H} (hg : XG h) : gT h 1218 = 31 := (hg.2.1 _ (List.mem_of_getElem? (i := 9) rfl)).2
theorem x_r10 {h : gd_H} (hg : XG h) : gR h 96 10 = 1219 := (hg.2.1 _ (List.mem_of_getElem? (i := 10) rfl)).1
theorem x_t10 {h : gd_H} (hg : XG h) : gT h 1219 = 31 := (hg.2.1 _ (List.mem_of_getElem? (i := 10) rfl)).2
theorem x_r11 {h : gd_H} (hg : XG h) : gR h 96 11 = 1220 := (hg.2.1 _ (List.mem_of_getElem? (i := 11) rfl)).1
theorem x_t11 {h : gd_H} (hg : XG h) : gT h 1220 = 31 := (hg.2.1 _ (List.mem_of_getElem? (i := 11) rfl)).2
theorem x_r12 {h : gd_H} (hg : XG h) : gR h 96 12 = 1221 := (hg.2.1 _ (List.mem_of_getElem? (i := 12) rfl)).1
theorem x_t12 {h : gd_H} (hg : XG h) : gT h 1221 = 31 := (hg.2.1 _ (List.mem_of_getElem? (i := 12) rfl)).2
theorem x_r13 {h : gd_H} (hg : XG h) : gR h 96 13 = 1222 := (hg.2.1 _ (List.mem_of_getElem? (i := 13) rfl)).1
theorem x_t13 {h : gd_H} (hg : XG h) : gT h 1222 = 31 := (hg.2.1 _ (List.mem_of_getElem? (i := 13) rfl)).2
theorem x_r14 {h : gd_H} (hg : XG h) : gR h 96 14 = 1223 := (hg.2.1 _ (List.mem_of_getElem? (i := 14) rfl)).1
theorem x_t14 {h : gd_H} (hg : XG h) : gT h 1223 = 34 := (hg.2.1 _ (List.mem_of_getElem? (i := 14) rfl)).2
theorem x_l0 {h : gd_H} (hg : XG h) : gL h 97 = 600 := hg.2.2.1 _ (List.mem_of_getElem? (i := 0) rfl)
theorem x_l3 {h : gd_H} (hg : XG h) : gL h 373 = 3 := hg.2.2.1 _ (List.mem_of_getElem? (i := 1) rfl)
theorem x_l7 {h : gd_H} (hg : XG h) : gL h 1216 = 2 := hg.2.2.1 _ (List.mem_of_getElem? (i := 2) rfl)
theorem x_l8 {h : gd_H} (hg : XG h) : gL h 1217 = 6 := hg.2.2.1 _ (List.mem_of_getElem? (i := 3) rfl)
theorem x_l9 {h : gd_H} (hg : XG h) : gL h 1218 = 6 := hg.2.2.1 _ (List.mem_of_getElem? (i := 4) rfl)
theorem x_l10 {h : gd_H} (hg : XG h) : gL h 1219 = 13 := hg.2.2.1 _ (List.mem_of_getElem? (i := 5) rfl)
theorem x_l11 {h : gd_H} (hg : XG h) : gL h 1220 = 1000 := hg.2.2.1 _ (List.mem_of_getElem? (i := 6) rfl)
theorem x_l12 {h : gd_H} (hg : XG h) : gL h 1221 = 7 := hg.2.2.1 _ (List.mem_of_getElem? (i := 7) rfl)
theorem x_l13 {h : gd_H} (hg : XG h) : gL h 1222 = 7 := hg.2.2.1 _ (List.mem_of_getElem? (i := 8) rfl)
theorem x_l14 {h : gd_H} (hg : XG h) : gL h 1223 = 13 := hg.2.2.1 _ (List.mem_of_getElem? (i := 9) rfl)
theorem XG.wI {h : gd_H} (I : Nat → Nat → Int32) (hg : XG h) : XG (wI h I) := hg
theorem XG.wJ {h : gd_H} (J : Nat → Nat → Int64) (hg : XG h) : XG (wJ h J) := hg
/-- what the class's side is -/
def XI (h : gd_H) (D : gdD) : Prop := XG h ∧
  (∃ σ, (gR h 96 15 = σ ∧ (σ = 1224 ∨ 1264 < σ) ∧ σ + 6 < gS h) ∧ SC h σ ∧ (∀ k, k < eB (dE D) → gI h (σ + 1) k = eT (dE D) k) ∧
    (∀ k, k ≤ dW D → gR h (101 + 16 * k) 9 = σ ∧ XC (gI h) (101 + 16 * k) σ (dE D) (-1) (dRow D k)) ∧
    (∀ i, i < dNi D → ∀ k, k ≤ dIw D i → gR h (376 + 274 * i + 16 * k) 9 = σ ∧ XC (gI h) (376 + 274 * i + 16 * k) σ (dE D) (-1) (dIr D i k))) ∧
  (gI h 99 1 = Int32.ofNat (dW D) ∧ dW D ≤ 16) ∧
  (gI h 96 20 = Int32.ofNat (dNi D) ∧ dNi D ≤ 3 ∧ ∀ i, i < dNi D → gI h (374 + 274 * i) 1 = Int32.ofNat (dIw D i) ∧ dIw D i ≤ 16) ∧
  (gI h 96 16 = Int32.ofNat (dFed D) ∧ dFed D ≤ 600 ∧ ∀ j, j < dFed D → gI h 97 j &&& 255 = dTp D j) ∧
  gI h 96 17 = dFa D ∧
  (gI h 96 18 = Int32.ofNat (dNb D) ∧ dNb D ≤ 6 ∧ (∀ k, k < dNb D → ∃ m, 1 ≤ m ∧ m ≤ 12 ∧ gI h 1217 k = Int32.ofNat m ∧ gI h 1218 k = dBk D m ∧ dBk D m ≠ -1) ∧ (∀ m, 1 ≤ m → m ≤ 12 → dBk D m ≠ -1 → ∃ k, k < dNb D ∧ gI h 1217 k = Int32.ofNat m)) ∧
  gI h 96 19 = dRs D ∧ (gI h 1216 0 = dR0 D ∧ gI h 1216 1 = dR1 D) ∧ LWx h (eL (dE D)) ∧ 1264 < gS h
/-- what the model's side is -/
def MI (h : gd_H) (D : gdD) : Prop := MS h ∧ (eB (dE D) ≤ 6 ∧ eN (dE D) ≤ 7) ∧ (gI h 1231 20 = Int32.ofNat (eB (dE D)) ∧ gI h 1231 21 = Int32.ofNat (eN (dE D)) ∧ gI h 1231 42 = -1) ∧
  (∀ k, k < eB (dE D) → gI h 1238 (2 * k) = eT (dE D) k ∧ gI h 1238 (2 * k + 1) = eG (dE D) k) ∧ (∀ p, p < 7 → gI h 1240 p = eK (dE D) p) ∧ (∀ m, m < 12 → gI h 1241 m = eR (dE D) m) ∧
  (∀ j, j < 50 → gI h 1250 j = dNow D j) ∧ (∀ k, k < dW D → ∀ j, j < 50 → gI h 1252 (50 * k + j) = dRow D k j) ∧ (gI h 1231 33 = Int32.ofNat (dW D) ∧ dW D ≤ 16) ∧
  (gI h 1231 56 = Int32.ofNat (dNi D) ∧ dNi D ≤ 3 ∧ ∀ i, i < dNi D → dIw D i ≤ 16 ∧ gI h 1263 (851 * i + 850) = Int32.ofNat (dIw D i) ∧ (∀ j, j < 50 → gI h 1263 (851 * i + j) = dIr D i (dIw D i) j) ∧ ∀ k, k < dIw D i → ∀ j, j < 50 → gI h 1263 (851 * i + 50 + 50 * k + j) = dIr D i k j) ∧
  (gI h 1231 2 = Int32.ofNat (dFed D) ∧ dFed D ≤ 600 ∧ ∀ j, j < dFed D → gI h 1233 j = dTp D j) ∧ gI h 1231 8 = dFa D ∧ (gI h 1231 45 = Int32.ofNat (dNb D) ∧ dNb D ≤ 6 ∧ ∀ m, m < 13 → gI h 1255 m = dBk D m) ∧ gI h 1231 34 = dRs D ∧ (gI h 1232 0 = dR0 D ∧ gI h 1232 1 = dR1 D) ∧ MLx (gI h) (eL (dE D))
/-! queries: what they leave -/
/-- scratch cells of the class's side -/
def scr (b : Nat) : Prop := (101 ≤ b ∧ b < 373 ∧ (b % 16 = 12 ∨ b % 16 = 13)) ∨ (1196 ≤ b ∧ b ≤ 1215) ∨ (1219 ≤ b ∧ b ≤ 1223)
def XQ (h h' : gd_H) : Prop := ∃ I' J' R', h' = wR (wJ (wI h I') J') R' ∧ (∀ b, ¬ scr b → b ≠ 96 → I' b = gI h b) ∧ (∀ j, j < 21 → I' 96 j = gI h 96 j) ∧ (∀ b, b ≠ 1223 → J' b = gJ h b) ∧ (∀ b j, ¬ (b = 1196 ∧ j = 9) → ¬ (b = 1212 ∧ j = 2) → R' b j = gR h b j)
theorem XQ.refl (h : gd_H) : XQ h h := ⟨gI h, gJ h, gR h, rfl, fun _ _ _ => rfl, fun _ _ => rfl, fun _ _ => rfl, fun _ _ _ _ => rfl⟩
theorem XQ.trans {h1 h2 h3 : gd_H} (a : XQ h1 h2) (b : XQ h2 h3) : XQ h1 h3 := by
  obtain ⟨I1, J1, R1, rfl, a1, a2, a3, a4⟩ := a
  obtain ⟨I2, J2, R2, rfl, b1, b2, b3, b4⟩ := b
  exact ⟨I2, J2, R2, rfl, fun b h h' => (b1 b h h').trans (a1 b h h'), fun j h => (b2 j h).trans (a2 j h), fun b h => (b3 b h).trans (a3 b h), fun b j h h' => (b4 b j h h').trans (a4 b j h h')⟩
theorem XQ.i {h : gd_H} {I' : Nat → Nat → Int32} (h1 : ∀ b, ¬ scr b → I' b = gI h b) : XQ h (wI h I') := ⟨I', gJ h, gR h, rfl, fun b h _ => h1 b h, fun j _ => by rw [h1 96 (by unfold scr; omega)], fun _ _ => rfl, fun _ _ _ _ => rfl⟩
theorem XQ.i96 {h : gd_H} {I' : Nat → Nat → Int32} (h1 : ∀ b, ¬ scr b → b ≠ 96 → I' b = gI h b) (h2 : ∀ j, j < 21 → I' 96 j = gI h 96 j) : XQ h (wI h I') := ⟨I', gJ h, gR h, rfl, h1, h2, fun _ _ => rfl, fun _ _ _ _ => rfl⟩
theorem SA.cg {h h' : gd_H} {a : Nat} (hs : SA h a) (hT : gT h' = gT h) (hL : gL h' = gL h) (hR : ∀ j, j ≠ 9 → gR h' a j = gR h a j) : SA h' a := by
  unfold SA at hs ⊢
  rw [hT, hL, hR 0 (by decide), hR 1 (by decide), hR 2 (by decide), hR 3 (by decide), hR 4 (by decide), hR 5 (by decide), hR 6 (by decide), hR 7 (by decide), hR 8 (by decide)]
  exact hs
theorem XG.q {h h' : gd_H} (hg : XG h) (q : XQ h h') : XG h' := by
  obtain ⟨I', J', R', rfl, -, -, -, hR⟩ := q
  obtain ⟨g1, g2, g3, g4, g5, g6, g7, g8, g9, g10⟩ := hg
  refine ⟨g1, fun e he => ?_, g3, ?_, fun k hk => ?_, fun i hi => ?_, ?_, fun k hk => (g8 k hk).cg rfl rfl (fun j hj => hR _ j (by omega) (by omega)), fun i hi k hk => (g9 i hi k hk).cg rfl rfl (fun j hj => hR _ j (by omega) (by omega)), g10.cg rfl rfl (fun j hj => hR _ j (by omega) (by omega))⟩
  · exact ⟨(hR 96 e.1 (by omega) (by omega)).trans (g2 e he).1, (g2 e he).2⟩
  · exact ⟨(hR 99 0 (by omega) (by omega)).trans g4.1, g4.2⟩
  · exact (hR 100 k (by omega) (by omega)).trans (g5 k hk)
  · obtain ⟨a1, a2, a3, a4, a5, a6⟩ := g6 i hi
    exact ⟨(hR 373 i (by omega) (by omega)).trans a1, a2, (hR _ 0 (by omega) (by omega)).trans a3, a4, a5, fun k hk => (hR _ k (by omega) (by omega)).trans (a6 k hk)⟩
  · exact ⟨(hR 1212 0 (by omega) (by omega)).trans g7.1, g7.2.1, g7.2.2.1, (hR 1212 1 (by omega) (by omega)).trans g7.2.2.2.1, g7.2.2.2.2⟩
theorem SC.cg {h h' : gd_H} {σ : Nat} (hs : SC h σ) (hT : ∀ b, σ ≤ b → b ≤ σ + 6 → gT h' b = gT h b ∧ gL h' b = gL h b) (hR : ∀ j, gR h' σ j = gR h σ j) : SC h' σ := by
  unfold SC at hs ⊢
  rw [hR 0, hR 1, hR 2, hR 3, hR 4, hR 5, (hT σ (by omega) (by omega)).1, (hT (σ + 1) (by omega) (by omega)).1, (hT (σ + 1) (by omega) (by omega)).2, (hT (σ + 2) (by omega) (by omega)).1, (hT (σ + 2) (by omega) (by omega)).2, (hT (σ + 3) (by omega) (by omega)).1, (hT (σ + 3) (by omega) (by omega)).2, (hT (σ + 4) (by omega) (by omega)).1, (hT (σ + 4) (by omega) (by omega)).2, (hT (σ + 5) (by omega) (by omega)).1, (hT (σ + 5) (by omega) (by omega)).2, (hT (σ + 6) (by omega) (by omega)).1, (hT (σ + 6) (by omega) (by omega)).2]
  exact hs
theorem LWx.kp {h h' : gd_H} {lw : gdV} (hl : LWx h lw) (kp : Kp h h') (h98 : gT h' 98 = gT h 98) (hr : gR h' 98 0 = gR h 98 0) : LWx h' lw := by
  obtain ⟨t, hl⟩ := hl
  refine ⟨h98.trans t, ?_⟩
  rw [hr]
  rcases hl with hl | ⟨n, hn, hT⟩
  · exact Or.inl hl
  · exact Or.inr ⟨n, hn, TV_kp kp _ _ _ hT⟩
theorem XI.q {h h' : gd_H} {D : gdD} (hi : XI h D) (q : XQ h h') : XI h' D := by
  have hg' := hi.1.q q
  obtain ⟨I', J', R', rfl, hI, hI96, hJ, hR⟩ := q
  obtain ⟨hg, ⟨σ, ⟨s1, s2, s3⟩, s4, s5, s6, s7⟩, ⟨w1, w2⟩, ⟨i1, i2, i3⟩, ⟨t1, t2, t3⟩, fa, ⟨b1, b2, b3, b4⟩, rs, ⟨r0, r1⟩, lw, sz⟩ := hi
  have nst : ∀ k, k ≤ 16 → ∀ b, (101 + 16 * k ≤ b ∧ b ≤ 101 + 16 * k + 6) ∨ 1224 ≤ b → I' b = gI h b := fun k hk b hb => hI b (by unfold scr; omega) (by omega)
  have nsi : ∀ i k, i < 3 → k ≤ 16 → ∀ b, (376 + 274 * i + 16 * k ≤ b ∧ b ≤ 376 + 274 * i + 16 * k + 6) ∨ 1224 ≤ b → I' b = gI h b := fun i k hi hk b hb => hI b (by unfold scr; omega) (by omega)
  refine ⟨hg', ⟨σ, ⟨(hR 96 15 (by omega) (by omega)).trans s1, s2, s3⟩, s4.cg (fun _ _ _ => ⟨rfl, rfl⟩) (fun j => hR σ j (by omega) (by omega)), fun k hk => ?_, fun k hk => ?_, fun i hi k hk => ?_⟩, ⟨?_, w2⟩, ⟨?_, i2, fun i hi => ⟨?_, (i3 i hi).2⟩⟩, ⟨?_, t2, fun j hj => ?_⟩, ?_, ⟨?_, b2, fun k hk => ?_, fun m m1 m2 m3 => ?_⟩, ?_, ⟨?_, ?_⟩, ?_, sz⟩
  · show I' (σ + 1) k = _
    rw [hI _ (by unfold scr; omega) (by omega)]; exact s5 k hk
  · exact ⟨(hR _ 9 (by omega) (by omega)).trans (s6 k hk).1, (s6 k hk).2.fr s4.1 (nst k (by omega))⟩
  · have := i3 i hi
    exact ⟨(hR _ 9 (by omega) (by omega)).trans (s7 i hi k hk).1, (s7 i hi k hk).2.fr s4.1 (nsi i k (by omega) (by omega))⟩
  · show I' 99 1 = _
    rw [hI _ (by unfold scr; omega) (by omega)]; exact w1
  · exact (hI96 20 (by omega)).trans i1
  · show I' (374 + 274 * i) 1 = _
    rw [hI _ (by unfold scr; omega) (by omega)]; exact (i3 i hi).1
  · exact (hI96 16 (by omega)).trans t1
  · show I' 97 j &&& 255 = _
    rw [hI _ (by unfold scr; omega) (by omega)]; exact t3 j hj
  · exact (hI96 17 (by omega)).trans fa
  · exact (hI96 18 (by omega)).trans b1
  · show ∃ m, 1 ≤ m ∧ m ≤ 12 ∧ I' 1217 k = _ ∧ I' 1218 k = _ ∧ _
    rw [hI 1217 (by unfold scr; omega) (by omega), hI 1218 (by unfold scr; omega) (by omega)]
    exact b3 k hk
  · show ∃ k, k < dNb D ∧ I' 1217 k = _
    rw [hI 1217 (by unfold scr; omega) (by omega)]
    exact b4 m m1 m2 m3
  · exact (hI96 19 (by omega)).trans rs
  · show I' 1216 0 = _
    rw [hI _ (by unfold scr; omega) (by omega)]; exact r0
  · show I' 1216 1 = _
    rw [hI _ (by unfold scr; omega) (by omega)]; exact r1
  · exact lw.kp ⟨Nat.le_refl _, fun b hb _ => ⟨rfl, rfl, hI b (by unfold scr; omega) (by omega), funext fun j => hR b j (by omega) (by omega)⟩⟩ rfl (hR 98 0 (by omega) (by omega))
/-- the class's queries leave the model's side -/
theorem MI.cg {h h' : gd_H} {D : gdD} (hi : MI h D) (hT : ∀ b, 1230 < b → b < 1264 → gT h' b = gT h b ∧ gL h' b = gL h b ∧ gI h' b = gI h b) (hR : gR h' 1231 = gR h 1231) : MI h' D := by
  obtain ⟨⟨m0, m1⟩, hr⟩ := hi
  have hI : ∀ b, 1230 < b → b < 1264 → gI h' b = gI h b := fun b h1 h2 => (hT b h1 h2).2.2
  unfold MI MLx at *
  rw [hI 1231 (by omega) (by omega), hI 1238 (by omega) (by omega), hI 1240 (by omega) (by omega), hI 1241 (by omega) (by omega), hI 1250 (by omega) (by omega), hI 1252 (by omega) (by omega), hI 1263 (by omega) (by omega), hI 1233 (by omega) (by omega), hI 1255 (by omega) (by omega), hI 1232 (by omega) (by omega), hI 1244 (by omega) (by omega), hI 1245 (by omega) (by omega)]
  refine ⟨⟨(hT 1231 (by omega) (by omega)).1.trans m0, fun e he => ?_⟩, hr⟩
  have hb : ∀ e ∈ msT, 1230 < e.2.1 ∧ e.2.1 < 1264 := by decide
  obtain ⟨e1, e2⟩ := hb e he
  rw [hR, (hT _ e1 e2).1, (hT _ e1 e2).2.1]
  exact m1 e he
theorem MI.xq {h h' : gd_H} {D : gdD} (hi : MI h D) (q : XQ h h') : MI h' D := by
  obtain ⟨I', J', R', rfl, hI, -, -, hR⟩ := q
  exact hi.cg (fun b h1 h2 => ⟨rfl, rfl, hI b (by unfold scr; omega) (by omega)⟩) (funext fun j => hR 1231 j (by omega) (by omega))
/-! the model's queries -/
def mper (b : Nat) : Prop := b < 1231 ∨ 1263 < b ∨ b = 1232 ∨ b = 1233 ∨ (1238 ≤ b ∧ b ≤ 1241) ∨ b = 1244 ∨ b = 1245 ∨ b = 1250 ∨ b = 1252 ∨ b = 1255 ∨ b = 1263
def MZ (h h' : gd_H) : Prop := ∃ I' J', h' = wJ (wI h I') J' ∧ (∀ b, mper b → I' b = gI h b) ∧ (∀ j ∈ ([2, 8, 20, 21, 28, 33, 34, 42, 45, 56] : List Nat), I' 1231 j = gI h 1231 j) ∧ ∀ b, b ≠ 1262 → J' b = gJ h b
theorem MZ.refl (h : gd_H) : MZ h h := ⟨gI h, gJ h, rfl, fun _ _ => rfl, fun _ _ => rfl, fun _ _ => rfl⟩
theorem MZ.trans {h1 h2 h3 : gd_H} (a : MZ h1 h2) (b : MZ h2 h3) : MZ h1 h3 := by
  obtain ⟨I1, J1, rfl, a1, a2, a3⟩ := a
  obtain ⟨I2, J2, rfl, b1, b2, b3⟩ := b
  exact ⟨I2, J2, rfl, fun b h => (b1 b h).trans (a1 b h), fun j h => (b2 j h).trans (a2 j h), fun b h => (b3 b h).trans (a3 b h)⟩
theorem MZ.i {h : gd_H} {I' : Nat → Nat → Int32} (h1 : ∀ b, b = 1231 ∨ mper b → I' b = gI h b) : MZ h (wI h I') := ⟨I', gJ h, rfl, fun b hb => h1 b (Or.inr hb), fun j _ => by rw [h1 1231 (Or.inl rfl)], fun _ _ => rfl⟩
theorem MZ.th {h : gd_H} (j : Nat) (v : Int32) (hj : j ∉ ([2, 8, 20, 21, 28, 33, 34, 42, 45, 56] : List Nat)) : MZ h (wI h (up1 (gI h) 1231 j v)) := ⟨_, gJ h, rfl, fun b hb => up1_nc _ _ _ (by unfold mper at hb; omega), fun k hk => up1_nj _ _ (fun z => hj (z ▸ hk)), fun _ _ => rfl⟩
theorem MI.mz {h h' : gd_H} {D : gdD} (hi : MI h D) (q : MZ h h') : MI h' D := by
  obtain ⟨I', J', rfl, hI, hj, -⟩ := q
  have h2 := hj 2 (by decide)
  have h8 := hj 8 (by decide)
  have h20 := hj 20 (by decide)
  have h21 := hj 21 (by decide)
  have h28 := hj 28 (by decide)
  have h33 := hj 33 (by decide)
  have h34 := hj 34 (by decide)
  have h42 := hj 42 (by decide)
  have h45 := hj 45 (by decide)
  have h56 := hj 56 (by decide)
  unfold MI MLx at *
  simp only [gI_wJ, gI_wI, h2, h8, h20, h21, h28, h33, h34, h42, h45, h56, hI 1238 (by unfold mper; omega), hI 1240 (by unfold mper; omega), hI 1241 (by unfold mper; omega), hI 1250 (by unfold mper; omega), hI 1252 (by unfold mper; omega), hI 1263 (by unfold mper; omega), hI 1233 (by unfold mper; omega), hI 1255 (by unfold mper; omega), hI 1232 (by unfold mper; omega), hI 1244 (by unfold mper; omega), hI 1245 (by unfold mper; omega)]
  exact hi
theorem XI.mz {h h' : gd_H} {D : gdD} (hi : XI h D) (q : MZ h h') : XI h' D := by
  obtain ⟨I', J', rfl, hI, -, -⟩ := q
  have hI1 : ∀ b, b < 1231 ∨ 1263 < b → I' b = gI h b := fun b hb => hI b (by unfold mper; omega)
  obtain ⟨hg, ⟨σ, ⟨s1, s2, s3⟩, s4, s5, s6, s7⟩, ⟨w1, w2⟩, ⟨i1, i2, i3⟩, ⟨t1, t2, t3⟩, fa, ⟨b1, b2, b3, b4⟩, rs, ⟨r0, r1⟩, lw, sz⟩ := hi
  have xc : ∀ {a : Nat} {r : gdR}, a ≤ 1196 → XC (gI h) a σ (dE D) (-1) r → XC I' a σ (dE D) (-1) r := by
    intro a r ha hx
    have e0 := hI1 a (by omega)
    have e1 := hI1 (a + 1) (by omega)
    have e2 := hI1 (a + 2) (by omega)
    have e3 := hI1 (a + 3) (by omega)
    have e4 := hI1 (a + 4) (by omega)
    have e5 := hI1 (a + 5) (by omega)
    have e6 := hI1 (a + 6) (by omega)
    have g0 := hI1 σ (by omega)
    have g2 := hI1 (σ + 2) (by omega)
    have g5 := hI1 (σ + 5) (by omega)
    have g6 := hI1 (σ + 6) (by omega)
    unfold XC
    rw [e0, e1, e2, e3, e4, e5, e6, g0, g2, g5, g6]
    exact hx
  refine ⟨hg, ⟨σ, ⟨s1, s2, s3⟩, s4, fun k hk => ?_, fun k hk => ⟨(s6 k hk).1, xc (by omega) (s6 k hk).2⟩, fun i hi k hk => ⟨(s7 i hi k hk).1, xc (by have := i3 i hi; omega) (s7 i hi k hk).2⟩⟩, ⟨?_, w2⟩, ⟨?_, i2, fun i hi => ⟨?_, (i3 i hi).2⟩⟩, ⟨?_, t2, fun j hj => ?_⟩, ?_, ⟨?_, b2, fun k hk => ?_, fun m m1 m2 m3 => ?_⟩, ?_, ⟨?_, ?_⟩, ?_, sz⟩
  · show I' (σ + 1) k = _
    rw [hI1 _ (by omega)]; exact s5 k hk
  · show I' 99 1 = _
    rw [hI1 _ (by omega)]; exact w1
  · show I' 96 20 = _
    rw [hI1 _ (by omega)]; exact i1
  · show I' (374 + 274 * i) 1 = _
    rw [hI1 _ (by omega)]; exact (i3 i hi).1
  · show I' 96 16 = _
    rw [hI1 _ (by omega)]; exact t1
  · show I' 97 j &&& 255 = _
    rw [hI1 _ (by omega)]; exact t3 j hj
  · show I' 96 17 = _
    rw [hI1 _ (by omega)]; exact fa
  · show I' 96 18 = _
    rw [hI1 _ (by omega)]; exact b1
  · show ∃ m, 1 ≤ m ∧ m ≤ 12 ∧ I' 1217 k = _ ∧ I' 1218 k = _ ∧ _
    rw [hI1 1217 (by omega), hI1 1218 (by omega)]
    exact b3 k hk
  · show ∃ k, k < dNb D ∧ I' 1217 k = _
    rw [hI1 1217 (by omega)]
    exact b4 m m1 m2 m3
  · show I' 96 19 = _
    rw [hI1 _ (by omega)]; exact rs
  · show I' 1216 0 = _
    rw [hI1 _ (by omega)]; exact r0
  · show I' 1216 1 = _
    rw [hI1 _ (by omega)]; exact r1
  · exact lw.kp (Kp.wI (fun b hb => hI1 b (by omega))) rfl rfl
/-! refusals -/
def thr (t : Nat) (h : gd_H) : gd_H := nw (wI h (up1 (gI h) 1216 (t - 24) (gI h 1216 (t - 24) + 1))) t 0 6
def mthr (t : Nat) (c : Int32) (h : gd_H) : gd_H := wI h (up1 (up1 (gI h) 1231 0 c) 1232 (t - 24) (gI h 1232 (t - 24) + 1))
/-- the class's methods: answers, refusals -/
def XOk (k : Nat) (as : List Value) (D : gdD) (v : Value) : Prop := ∀ (d : Nat) (h : gd_H), 400 ≤ d → XI h D → DI D → ∃ h', run gd_P0 d k (.ref 96 :: as) h = some (.inl (some v), h') ∧ XQ h h'
def XNo (k : Nat) (as : List Value) (D : gdD) (t : Nat) : Prop := ∀ (d : Nat) (h : gd_H), 400 ≤ d → XI h D → DI D → run gd_P0 d k (.ref 96 :: as) h = some (.inr (gS h), thr t h)
/-- the model's -/
def MOk (k : Nat) (as : List Value) (D : gdD) (v : Value) : Prop := ∀ (d : Nat) (h : gd_H), 300 ≤ d → MI h D → DI D → ∃ h', run gd_P0 d k (.ref 1231 :: as) h = some (.inl (some v), h') ∧ MZ h h' ∧ gI h' 1231 0 = 0
def MNo (k : Nat) (as : List Value) (D : gdD) (t : Nat) (c : Int32) (v : Value) : Prop := ∀ (d : Nat) (h : gd_H), 300 ≤ d → MI h D → DI D → run gd_P0 d k (.ref 1231 :: as) h = some (.inl (some v), mthr t c h)

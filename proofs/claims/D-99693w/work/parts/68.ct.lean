/-! ===== THE CLASS's READER: tokens ===== -/
set_option maxRecDepth 100000
def wds : List (List Nat) := [[98, 111, 97, 114, 100], [98, 111, 121], [107, 105, 110], [114, 97, 105, 110], [102, 111, 111, 100], [104, 105, 103, 104], [107, 105, 110], [114, 97, 105, 110], [103, 97, 105, 110], [109, 111, 110, 116, 104], [100, 111, 111, 114], [98, 111, 121], [108, 101, 97, 115, 116], [109, 111, 115, 116], [110, 111, 116, 99, 104], [102, 101, 101, 100], [111, 105, 108], [112, 108, 97, 110, 101], [108, 101, 97, 118, 101], [98, 97, 99, 107], [109, 111, 110, 116, 104], [97, 103, 97, 105, 110], [98, 111, 97, 114, 100], [98, 111, 121], [107, 105, 110], [114, 97, 105, 110], [108, 101, 97, 115, 116], [109, 111, 115, 116], [102, 111, 111, 100], [104, 105, 103, 104], [103, 97, 105, 110], [109, 111, 110, 116, 104], [100, 111, 111, 114], [110, 111, 116, 99, 104], [108, 101, 97, 118, 101], [98, 97, 99, 107], [102, 101, 101, 100], [111, 105, 108], [112, 108, 97, 110, 101], [97, 103, 97, 105, 110]]
/-- the String constants stand -/
def SK (h : gd_H) : Prop := ∀ j, j < 40 → (gT h (8 + 2 * j) = 23 ∧ gT h (9 + 2 * j) = 42 ∧ gL h (9 + 2 * j) = (wds.getD j []).length) ∧ ∀ k, k < (wds.getD j []).length → gI h (9 + 2 * j) k = Int32.ofNat ((wds.getD j []).getD k 0)
theorem wds_g : ∀ j, j < 40 → (wds.getD j []).length ≤ 6 ∧ 1 ≤ (wds.getD j []).length ∧ ∀ k, k < (wds.getD j []).length → 97 ≤ (wds.getD j []).getD k 0 ∧ (wds.getD j []).getD k 0 ≤ 122 := by decide +kernel
theorem SK.cg {h h' : gd_H} (hs : SK h) (hT : ∀ b, b < 96 → gT h' b = gT h b ∧ gL h' b = gL h b ∧ gI h' b = gI h b) : SK h' := by
  intro j hj
  rw [(hT (8 + 2 * j) (by omega)).1, (hT (9 + 2 * j) (by omega)).1, (hT (9 + 2 * j) (by omega)).2.1, (hT (9 + 2 * j) (by omega)).2.2]
  exact hs j hj
theorem shr0 (x : Int32) : x >>> ((0 : Int32) &&& 31) = x := b_ext fun i hi => by
  rw [show bt (x >>> ((0 : Int32) &&& 31)) i = _ from b_sshr 0 (by omega) x hi, if_pos (by omega), Nat.zero_add]
theorem chr_c : ∀ c, c < 128 → UInt32.toInt32 (UInt16.toUInt32 (UInt32.toUInt16 (Int32.toUInt32 ((Int32.toUInt32 ((Int32.ofNat c) &&& (255 : Int32)) % 65536).toInt32)))) = ((Int32.toUInt32 ((Int32.ofNat c) &&& (255 : Int32)) % 65536).toInt32) ∧ ((Int32.toUInt32 ((Int32.ofNat c) &&& (255 : Int32)) % 65536).toInt32) = Int32.ofNat c ∧ UInt32.toInt32 (UInt16.toUInt32 (UInt32.toUInt16 (Int32.toUInt32 (Int32.ofNat c)))) = Int32.ofNat c := by decide +kernel
theorem sp5 {h : gd_H} (hs : SK h) {d : Nat} (hd : 2 ≤ d) {j : Nat} (hj : j < 40) : run gd_P0 d 5 [.ref (8 + 2 * j)] h = some (.inl (some (.int (Int32.ofNat (wds.getD j []).length))), h) := by
  obtain ⟨d, rfl⟩ : ∃ e, d = e + 1 := ⟨d - 1, by omega⟩
  obtain ⟨⟨h1, h2, h3⟩, -⟩ := hs j hj
  have h4 : 8 + 2 * j < 96 := by omega
  have h5 : 8 + 2 * j + 1 < 96 := by omega
  have h6 : 8 + 2 * j + 1 = 9 + 2 * j := by omega
  have e6 : run gd_P0 d 6 [.ref (8 + 2 * j)] h = some (.inl (some (.int 0)), h) := by
    obtain ⟨d, rfl⟩ : ∃ e, d = e + 1 := ⟨d - 1, by omega⟩
    rw [r6, s6_0, if_pos ⟨h1, h4⟩, s6_14, if_pos (by decide)]
  rw [r5, s5_0, if_pos ⟨h1, h4⟩, if_pos ⟨by rw [h6]; exact h2, h5⟩, if_pos ⟨h1, h4⟩, e6, gc_v, s5_9, shr0, h6, h3]
theorem sp7 {h : gd_H} (hs : SK h) {d : Nat} (hd : 4 ≤ d) {j k : Nat} (hj : j < 40) (hk : k < (wds.getD j []).length) : run gd_P0 d 7 [.ref (8 + 2 * j), .int (Int32.ofNat k)] h = some (.inl (some (.int (Int32.ofNat ((wds.getD j []).getD k 0)))), h) := by
  obtain ⟨d, rfl⟩ : ∃ e, d = e + 1 := ⟨d - 1, by omega⟩
  obtain ⟨⟨h1, h2, h3⟩, hI⟩ := hs j hj
  obtain ⟨g1, g2, g3⟩ := wds_g j hj
  have c1 := g3 k hk
  obtain ⟨x1, x2, x3⟩ := chr_c ((wds.getD j []).getD k 0) (by omega)
  have h4 : 8 + 2 * j < 96 := by omega
  have h6 : 8 + 2 * j + 1 = 9 + 2 * j := by omega
  have h5 : 9 + 2 * j < 96 := by omega
  have e8 : run gd_P0 d 8 [.ref (8 + 2 * j)] h = some (.inl (some (.int 1)), h) := by
    obtain ⟨d, rfl⟩ : ∃ e, d = e + 1 := ⟨d - 1, by omega⟩
    rw [r8, s8_0, if_pos ⟨h1, h4⟩, s8_18, if_pos (by decide)]
  have e10 : run gd_P0 d 10 [.ref (9 + 2 * j), .int (Int32.ofNat k)] h = some (.inl (some (.int (Int32.ofNat ((wds.getD j []).getD k 0)))), h) := by
    obtain ⟨d, rfl⟩ : ∃ e, d = e + 1 := ⟨d - 1, by omega⟩
    have e9 : run gd_P0 d 9 [.int (Int32.ofNat k), .int (Int32.ofNat (wds.getD j []).length)] h = some (.inl none, h) := by
      obtain ⟨d, rfl⟩ : ∃ e, d = e + 1 := ⟨d - 1, by omega⟩
      have e11 : run gd_P0 d 11 [.int (Int32.ofNat k), .int (Int32.ofNat (wds.getD j []).length), .ref 1] h = some (.inl (some (.int (Int32.ofNat k))), h) := by
        obtain ⟨d, rfl⟩ : ∃ e, d = e + 1 := ⟨d - 1, by omega⟩
        rw [r11, s11_0, if_neg (by rw [j_neg (by omega)]; exact fun z => z), if_pos (by rw [j_lt (by omega) (by omega)]; exact hk)]
      rw [r9, s9_0, e11, gc_v, s9_8]
    rw [r10, s10_0, if_pos ⟨h2, h5⟩, h3, e9, gc_n, s10_6, if_pos ⟨h2, h5, by rw [j_ix (by omega) (by rw [h3]; exact hk)]; exact trivial⟩, j_cl (by omega), hI k hk, if_pos x1, x2]
  rw [r7, s7_0, if_pos ⟨h1, h4⟩, e8, gc_v, s7_4, if_neg (by decide), if_pos ⟨h1, h4⟩, h6, e10, gc_v, s7_15, if_pos x3]
/-! a reader at a place, so many open -/
def rz (h : gd_H) (ρ p o : Nat) : gd_H := wI h (up1 (up1 (gI h) ρ 2 (Int32.ofNat p)) ρ 3 (Int32.ofNat o))
theorem gT_rz (h : gd_H) (ρ p o : Nat) : gT (rz h ρ p o) = gT h := rfl
theorem gL_rz (h : gd_H) (ρ p o : Nat) : gL (rz h ρ p o) = gL h := rfl
theorem gR_rz (h : gd_H) (ρ p o : Nat) : gR (rz h ρ p o) = gR h := rfl
theorem gS_rz (h : gd_H) (ρ p o : Nat) : gS (rz h ρ p o) = gS h := rfl
theorem gU_rz (h : gd_H) (ρ p o : Nat) : gU (rz h ρ p o) = gU h := rfl
theorem gJ_rz (h : gd_H) (ρ p o : Nat) : gJ (rz h ρ p o) = gJ h := rfl
theorem rz_2 (h : gd_H) (ρ p o : Nat) : gI (rz h ρ p o) ρ 2 = Int32.ofNat p := by show up1 (up1 _ _ _ _) _ _ _ _ _ = _; simp [up1]
theorem rz_3 (h : gd_H) (ρ p o : Nat) : gI (rz h ρ p o) ρ 3 = Int32.ofNat o := by show up1 (up1 _ _ _ _) _ _ _ _ _ = _; simp [up1]
theorem rz_j (h : gd_H) (ρ p o : Nat) {j : Nat} (h2 : j ≠ 2) (h3 : j ≠ 3) : gI (rz h ρ p o) ρ j = gI h ρ j := by show up1 (up1 _ _ _ _) _ _ _ _ _ = _; simp [up1, h2, h3]
theorem rz_b (h : gd_H) (ρ p o : Nat) {b : Nat} (hb : b ≠ ρ) : gI (rz h ρ p o) b = gI h b := by funext j; show up1 (up1 _ _ _ _) _ _ _ _ _ = _; simp [up1, hb]
theorem wI_rz (h : gd_H) (ρ p o : Nat) (f : Nat → Nat → Int32) : wI (rz h ρ p o) f = wI h f := rfl
theorem rz_w2 (h : gd_H) (ρ p o p' : Nat) : wI (rz h ρ p o) (up1 (gI (rz h ρ p o)) ρ 2 (Int32.ofNat p')) = rz h ρ p' o := by
  unfold rz
  rw [wI_wI]
  congr 1
  funext b j
  simp only [gI_wI, up1]
  by_cases hb : b = ρ
  · by_cases h2 : j = 2
    · simp [hb, h2]
    · simp [hb, h2]
  · simp [hb]
theorem rz_w3 (h : gd_H) (ρ p o o' : Nat) : wI (rz h ρ p o) (up1 (gI (rz h ρ p o)) ρ 3 (Int32.ofNat o')) = rz h ρ p o' := by
  unfold rz
  rw [wI_wI]
  congr 1
  funext b j
  simp only [gI_wI, up1]
  by_cases hb : b = ρ
  · by_cases h2 : j = 3
    · simp [hb, h2]
    · simp [hb, h2]
  · simp [hb]
/-- a reader of a text -/
def RB (h : gd_H) (ρ : Nat) (X : gdX) : Prop := (gT h ρ = 10 ∧ gR h ρ 0 = 97 ∧ gT h 97 = 32 ∧ gL h 97 = 600) ∧ gI h ρ 1 = Int32.ofNat (xn X) ∧ (∀ j, j < xn X → gI h 97 j &&& 255 = Int32.ofNat (xb X j)) ∧ (1264 < ρ ∧ ρ < gS h) ∧ XO X
theorem SK.rz {h : gd_H} (hs : SK h) {ρ : Nat} (hρ : 1264 < ρ) (p o : Nat) : SK (rz h ρ p o) := hs.cg fun b hb => ⟨rfl, rfl, rz_b h ρ p o (by omega)⟩
def xv (X : gdX) (k : Nat) : Int32 := if k < xn X then Int32.ofNat (xb X k) else -1
theorem xv_in {X : gdX} {k : Nat} (h : k < xn X) : xv X k = Int32.ofNat (xb X k) := if_pos h
theorem xv_out {X : gdX} {k : Nat} (h : xn X ≤ k) : xv X k = -1 := if_neg (by omega)
theorem xv_eq {X : gdX} (hX : XO X) (k : Nat) {c : Nat} (hc : c < 256) : (xv X k = Int32.ofNat c) = (ch X k = c) := by
  by_cases h : k < xn X
  · have := hX.2 k h
    rw [xv_in h, ch_in h, j_eq (by omega) (by omega)]
  · rw [xv_out (by omega), ch_end (by omega), j_m1' (by omega)]
    exact (eq_false (by omega)).symm
theorem xv_m1 {X : gdX} (hX : XO X) (k : Nat) : (xv X k = -1) = (ch X k = 256) := by
  by_cases h : k < xn X
  · have := hX.2 k h
    rw [xv_in h, ch_in h, j_m1 (by omega)]
    exact (eq_false (by omega)).symm
  · rw [xv_out (by omega), ch_end (by omega)]
    simp
theorem sp98 {h : gd_H} {ρ : Nat} {X : gdX} (hb : RB h ρ X) {d : Nat} (hd : 1 ≤ d) (p o : Nat) {k : Nat} (hk : k < 100000) : run gd_P0 d 98 [.ref ρ, .int (Int32.ofNat k)] (rz h ρ p o) = some (.inl (some (.int (xv X k))), rz h ρ p o) := by
  obtain ⟨d, rfl⟩ : ∃ e, d = e + 1 := ⟨d - 1, by omega⟩
  obtain ⟨⟨b1, b2, b3, b4⟩, b5, b6, ⟨b7, b8⟩, hX, -⟩ := hb
  have e1 : gI (rz h ρ p o) ρ 1 = Int32.ofNat (xn X) := (rz_j h ρ p o (by omega) (by omega)).trans b5
  rw [r98, s98_0, gT_rz, gR_rz, gL_rz, if_pos b1, e1]
  by_cases c : k < xn X
  · have c2 : k < 600 := by omega
    have e2 : gI (rz h ρ p o) 97 = gI h 97 := rz_b h ρ p o (by omega)
    simp (disch := first | omega | assumption) only [b2, b3, b4, b1, e2, b6 k c, xv_in c, s98_22, gT_wI, gR_wI, gL_wI, gS_wI, gU_wI, gI_wI, gJ_wI, gI_wJ, gJ_wJ, gR_wJ, gT_wJ, gL_wJ, gS_wJ, gU_wJ, gI_wR, gJ_wR, gR_wR, gT_wR, gL_wR, gS_wR, gU_wR, wI_wI, wJ_wJ, wR_wR, j_s, j_add, j_addL, j_addR, j_mulL, j_mulR, j_cl, j_clL, j_neg, j_negL, j_nn, j_lt, j_le, j_eq, j_ltL, j_ltR, j_leL, j_leR, j_eqL, j_eqR, j_m1, j_m1L, j_m1R, j_eqLL, j_ltLL, j_leLL, n_le0, n_le1, n_lt0, n_lt1, gc_v, gc_n, ↓reduceIte, and_true, true_and, and_self, or_self, or_false, false_or, not_false_eq_true, not_true_eq_false, false_and, and_false, Nat.reduceAdd, Nat.reduceEqDiff, Nat.reduceLeDiff, Nat.reduceLT]
  · simp (disch := first | omega | assumption) only [xv_out (X := X) (k := k) (by omega), s98_22, gT_wI, gR_wI, gL_wI, gS_wI, gU_wI, gI_wI, gJ_wI, gI_wJ, gJ_wJ, gR_wJ, gT_wJ, gL_wJ, gS_wJ, gU_wJ, gI_wR, gJ_wR, gR_wR, gT_wR, gL_wR, gS_wR, gU_wR, wI_wI, wJ_wJ, wR_wR, j_s, j_add, j_addL, j_addR, j_mulL, j_mulR, j_cl, j_clL, j_neg, j_negL, j_nn, j_lt, j_le, j_eq, j_ltL, j_ltR, j_leL, j_leR, j_eqL, j_eqR, j_m1, j_m1L, j_m1R, j_eqLL, j_ltLL, j_leLL, n_le0, n_le1, n_lt0, n_lt1, gc_v, gc_n, ↓reduceIte, and_true, true_and, and_self, or_self, or_false, false_or, not_false_eq_true, not_true_eq_false, false_and, and_false, Nat.reduceAdd, Nat.reduceEqDiff, Nat.reduceLeDiff, Nat.reduceLT]
theorem sp97 {h : gd_H} {ρ : Nat} {X : gdX} (hb : RB h ρ X) {d : Nat} (hd : 2 ≤ d) {p : Nat} (hp : p ≤ xn X) (o : Nat) : run gd_P0 d 97 [.ref ρ] (rz h ρ p o) = some (.inl (some (.int (xv X (sk X p)))), rz h ρ (sk X p) o) := by
  obtain ⟨d, rfl⟩ : ∃ e, d = e + 1 := ⟨d - 1, by omega⟩
  have hX : XO X := hb.2.2.2.2
  have hn : xn X ≤ 600 := hX.1
  rw [r97]
  have st : ∀ j, j ≤ xn X → go gd_P0 d 97 0 [.ref ρ] [] (rz h ρ j o) = if decide (ch X j = 32) = true then go gd_P0 d 97 0 [.ref ρ] [] (rz h ρ (j + 1) o) else some (.inl (some (.int (xv X j))), rz h ρ j o) := by
    intro j hj
    have e := sp98 hb (d := d) (by omega) j o (k := j) (by omega)
    rw [s97_0]
    simp only [gT_rz, hb.1.1, rz_2, e, ↓reduceIte, gc_v]
    rw [s97_8]
    simp only [gT_rz, hb.1.1, rz_2, e, ↓reduceIte, gc_v, s97_34, xv_eq hX j (c := 32) (by omega), j_s, rz_w2, decide_eq_true_eq, show (32 : Int32) = Int32.ofNat 32 from rfl]
  refine ce_lp (fun j => go gd_P0 d 97 0 [.ref ρ] [] (rz h ρ j o)) (fun j => some (.inl (some (.int (xv X j))), rz h ρ j o)) (fun j => decide (xb X j = 32)) (xn X - p) p (fun j a b => ?_) ?_
  · have := st j (by omega)
    rw [ch_in (by omega)] at this
    exact this
  · have := st (p + (xn X - p)) (by omega)
    rw [ch_end (by omega)] at this
    exact this
theorem sp99 {h : gd_H} {ρ : Nat} {X : gdX} (hb : RB h ρ X) {d : Nat} (hd : 3 ≤ d) {p : Nat} (hp : p ≤ xn X) (o : Nat) : run gd_P0 d 99 [.ref ρ] (rz h ρ p o) = some (.inl (some (.int (Int32.ofNat (sk X p)))), rz h ρ (sk X p) o) := by
  obtain ⟨d, rfl⟩ : ∃ e, d = e + 1 := ⟨d - 1, by omega⟩
  rw [r99, s99_0]
  simp only [gT_rz, hb.1.1, ↓reduceIte, sp97 hb (d := d) (by omega) hp o, gc_v]
  rw [s99_4]
  simp only [gT_rz, hb.1.1, ↓reduceIte, rz_2]
theorem sp102 {X : gdX} (hX : XO X) {d : Nat} (hd : 1 ≤ d) (k : Nat) (h : gd_H) : run gd_P0 d 102 [.int (xv X k)] h = some (.inl (some (.int (if sml (ch X k) = true then 1 else 0))), h) := by
  obtain ⟨d, rfl⟩ : ∃ e, d = e + 1 := ⟨d - 1, by omega⟩
  rw [r102, s102_0]
  unfold sml
  by_cases h : k < xn X
  · have := hX.2 k h
    rw [xv_in h, ch_in h]
    by_cases c1 : xb X k < 97
    · have c2 : ¬ (97 ≤ xb X k ∧ xb X k ≤ 122) := by omega
      simp (disch := first | omega | assumption) only [c1, c2, s102_16, s102_17, decide_false, Bool.false_eq_true, true_or, gT_wI, gR_wI, gL_wI, gS_wI, gU_wI, gI_wI, gJ_wI, gI_wJ, gJ_wJ, gR_wJ, gT_wJ, gL_wJ, gS_wJ, gU_wJ, gI_wR, gJ_wR, gR_wR, gT_wR, gL_wR, gS_wR, gU_wR, wI_wI, wJ_wJ, wR_wR, j_s, j_add, j_addL, j_addR, j_mulL, j_mulR, j_cl, j_clL, j_neg, j_negL, j_nn, j_lt, j_le, j_eq, j_ltL, j_ltR, j_leL, j_leR, j_eqL, j_eqR, j_m1, j_m1L, j_m1R, j_eqLL, j_ltLL, j_leLL, n_le0, n_le1, n_lt0, n_lt1, gc_v, gc_n, ↓reduceIte, and_true, true_and, and_self, or_self, or_false, false_or, not_false_eq_true, not_true_eq_false, false_and, and_false, Nat.reduceAdd, Nat.reduceEqDiff, Nat.reduceLeDiff, Nat.reduceLT]
    · by_cases c3 : 122 < xb X k
      · have c2 : ¬ (97 ≤ xb X k ∧ xb X k ≤ 122) := by omega
        simp (disch := first | omega | assumption) only [c1, c2, c3, s102_16, s102_17, decide_false, Bool.false_eq_true, true_or, gT_wI, gR_wI, gL_wI, gS_wI, gU_wI, gI_wI, gJ_wI, gI_wJ, gJ_wJ, gR_wJ, gT_wJ, gL_wJ, gS_wJ, gU_wJ, gI_wR, gJ_wR, gR_wR, gT_wR, gL_wR, gS_wR, gU_wR, wI_wI, wJ_wJ, wR_wR, j_s, j_add, j_addL, j_addR, j_mulL, j_mulR, j_cl, j_clL, j_neg, j_negL, j_nn, j_lt, j_le, j_eq, j_ltL, j_ltR, j_leL, j_leR, j_eqL, j_eqR, j_m1, j_m1L, j_m1R, j_eqLL, j_ltLL, j_leLL, n_le0, n_le1, n_lt0, n_lt1, gc_v, gc_n, ↓reduceIte, and_true, true_and, and_self, or_self, or_false, false_or, not_false_eq_true, not_true_eq_false, false_and, and_false, Nat.reduceAdd, Nat.reduceEqDiff, Nat.reduceLeDiff, Nat.reduceLT]
      · have c2 : (97 ≤ xb X k ∧ xb X k ≤ 122) := by omega
        rw [decide_eq_true c2]
        simp (disch := first | omega | assumption) only [c1, c3, s102_16, s102_17, or_true, gT_wI, gR_wI, gL_wI, gS_wI, gU_wI, gI_wI, gJ_wI, gI_wJ, gJ_wJ, gR_wJ, gT_wJ, gL_wJ, gS_wJ, gU_wJ, gI_wR, gJ_wR, gR_wR, gT_wR, gL_wR, gS_wR, gU_wR, wI_wI, wJ_wJ, wR_wR, j_s, j_add, j_addL, j_addR, j_mulL, j_mulR, j_cl, j_clL, j_neg, j_negL, j_nn, j_lt, j_le, j_eq, j_ltL, j_ltR, j_leL, j_leR, j_eqL, j_eqR, j_m1, j_m1L, j_m1R, j_eqLL, j_ltLL, j_leLL, n_le0, n_le1, n_lt0, n_lt1, gc_v, gc_n, ↓reduceIte, and_true, true_and, and_self, or_self, or_false, false_or, not_false_eq_true, not_true_eq_false, false_and, and_false, Nat.reduceAdd, Nat.reduceEqDiff, Nat.reduceLeDiff, Nat.reduceLT]
  · rw [xv_out (by omega), ch_end (by omega), if_pos (by decide), s102_16, s102_17, if_pos (Or.inl rfl)]
    rfl
theorem sp105 {X : gdX} (hX : XO X) {d : Nat} (hd : 1 ≤ d) (k : Nat) (h : gd_H) : run gd_P0 d 105 [.int (xv X k)] h = some (.inl (some (.int (if dgt (ch X k) = true then 1 else 0))), h) := by
  obtain ⟨d, rfl⟩ : ∃ e, d = e + 1 := ⟨d - 1, by omega⟩
  rw [r105, s105_0]
  unfold dgt
  by_cases h : k < xn X
  · have := hX.2 k h
    rw [xv_in h, ch_in h]
    by_cases c1 : xb X k < 48
    · have c2 : ¬ (48 ≤ xb X k ∧ xb X k ≤ 57) := by omega
      simp (disch := first | omega | assumption) only [c1, c2, s105_16, s105_17, decide_false, Bool.false_eq_true, true_or, gT_wI, gR_wI, gL_wI, gS_wI, gU_wI, gI_wI, gJ_wI, gI_wJ, gJ_wJ, gR_wJ, gT_wJ, gL_wJ, gS_wJ, gU_wJ, gI_wR, gJ_wR, gR_wR, gT_wR, gL_wR, gS_wR, gU_wR, wI_wI, wJ_wJ, wR_wR, j_s, j_add, j_addL, j_addR, j_mulL, j_mulR, j_cl, j_clL, j_neg, j_negL, j_nn, j_lt, j_le, j_eq, j_ltL, j_ltR, j_leL, j_leR, j_eqL, j_eqR, j_m1, j_m1L, j_m1R, j_eqLL, j_ltLL, j_leLL, n_le0, n_le1, n_lt0, n_lt1, gc_v, gc_n, ↓reduceIte, and_true, true_and, and_self, or_self, or_false, false_or, not_false_eq_true, not_true_eq_false, false_and, and_false, Nat.reduceAdd, Nat.reduceEqDiff, Nat.reduceLeDiff, Nat.reduceLT]
    · by_cases c3 : 57 < xb X k
      · have c2 : ¬ (48 ≤ xb X k ∧ xb X k ≤ 57) := by omega
        simp (disch := first | omega | assumption) only [c1, c2, c3, s105_16, s105_17, decide_false, Bool.false_eq_true, true_or, gT_wI, gR_wI, gL_wI, gS_wI, gU_wI, gI_wI, gJ_wI, gI_wJ, gJ_wJ, gR_wJ, gT_wJ, gL_wJ, gS_wJ, gU_wJ, gI_wR, gJ_wR, gR_wR, gT_wR, gL_wR, gS_wR, gU_wR, wI_wI, wJ_wJ, wR_wR, j_s, j_add, j_addL, j_addR, j_mulL, j_mulR, j_cl, j_clL, j_neg, j_negL, j_nn, j_lt, j_le, j_eq, j_ltL, j_ltR, j_leL, j_leR, j_eqL, j_eqR, j_m1, j_m1L, j_m1R, j_eqLL, j_ltLL, j_leLL, n_le0, n_le1, n_lt0, n_lt1, gc_v, gc_n, ↓reduceIte, and_true, true_and, and_self, or_self, or_false, false_or, not_false_eq_true, not_true_eq_false, false_and, and_false, Nat.reduceAdd, Nat.reduceEqDiff, Nat.reduceLeDiff, Nat.reduceLT]
      · have c2 : (48 ≤ xb X k ∧ xb X k ≤ 57) := by omega
        rw [decide_eq_true c2]
        simp (disch := first | omega | assumption) only [c1, c3, s105_16, s105_17, or_true, gT_wI, gR_wI, gL_wI, gS_wI, gU_wI, gI_wI, gJ_wI, gI_wJ, gJ_wJ, gR_wJ, gT_wJ, gL_wJ, gS_wJ, gU_wJ, gI_wR, gJ_wR, gR_wR, gT_wR, gL_wR, gS_wR, gU_wR, wI_wI, wJ_wJ, wR_wR, j_s, j_add, j_addL, j_addR, j_mulL, j_mulR, j_cl, j_clL, j_neg, j_negL, j_nn, j_lt, j_le, j_eq, j_ltL, j_ltR, j_leL, j_leR, j_eqL, j_eqR, j_m1, j_m1L, j_m1R, j_eqLL, j_ltLL, j_leLL, n_le0, n_le1, n_lt0, n_lt1, gc_v, gc_n, ↓reduceIte, and_true, true_and, and_self, or_self, or_false, false_or, not_false_eq_true, not_true_eq_false, false_and, and_false, Nat.reduceAdd, Nat.reduceEqDiff, Nat.reduceLeDiff, Nat.reduceLT]
  · rw [xv_out (by omega), ch_end (by omega), if_pos (by decide), s105_16, s105_17, if_pos (Or.inl rfl)]
    rfl
/-! more cells; all that was there stands -/
def Ke (c : Nat) (h h' : gd_H) : Prop := (gS h ≤ gS h' ∧ gS h' ≤ gS h + c ∧ gU h' ≤ gU h + 16 * c) ∧ ∀ b, b < gS h → gT h' b = gT h b ∧ gL h' b = gL h b ∧ gI h' b = gI h b ∧ gR h' b = gR h b
/-- all that was there below a cell stands -/
def Kr (ρ c : Nat) (h h' : gd_H) : Prop := (gS h ≤ gS h' ∧ gS h' ≤ gS h + c ∧ gU h' ≤ gU h + 16 * c) ∧ ∀ b, b < ρ → gT h' b = gT h b ∧ gL h' b = gL h b ∧ gI h' b = gI h b ∧ gR h' b = gR h b
theorem Ke.refl (h : gd_H) : Ke 0 h h := ⟨⟨Nat.le_refl _, Nat.le_refl _, Nat.le_refl _⟩, fun _ _ => ⟨rfl, rfl, rfl, rfl⟩⟩
theorem Ke.up {c c' : Nat} {h h' : gd_H} (k : Ke c h h') (hc : c ≤ c') : Ke c' h h' := ⟨⟨k.1.1, by have := k.1.2.1; omega, by have := k.1.2.2; omega⟩, k.2⟩
theorem Ke.trans {c c1 c2 : Nat} {h1 h2 h3 : gd_H} (a : Ke c1 h1 h2) (b : Ke c2 h2 h3) (hc : c1 + c2 ≤ c) : Ke c h1 h3 := by
  obtain ⟨⟨a1, a2, a3⟩, a4⟩ := a
  obtain ⟨⟨b1, b2, b3⟩, b4⟩ := b
  refine ⟨⟨by omega, by omega, by omega⟩, fun x hx => ?_⟩
  obtain ⟨x1, x2, x3, x4⟩ := a4 x hx
  obtain ⟨y1, y2, y3, y4⟩ := b4 x (by omega)
  exact ⟨y1.trans x1, y2.trans x2, y3.trans x3, y4.trans x4⟩
theorem Ke.nw (h : gd_H) (t n s : Nat) (hs : s ≤ 16) : Ke 1 h (nw h t n s) := by
  refine ⟨⟨by rw [gS_nw]; omega, by rw [gS_nw]; omega, by rw [gU_nw]; omega⟩, fun b hb => ?_⟩
  have z : b ≠ gS h := by omega
  exact ⟨by rw [gT_nw, if_neg z], by rw [gL_nw, if_neg z], funext fun j => by rw [gI_nw, if_neg z], funext fun j => by rw [gR_nw, if_neg z]⟩
theorem Ke.w {c : Nat} {h h1 : gd_H} (k : Ke c h h1) (I' : Nat → Nat → Int32) (R' : Nat → Nat → Nat) (hI : ∀ b, b < gS h → I' b = gI h1 b) (hR : ∀ b, b < gS h → R' b = gR h1 b) : Ke c h (wR (wI h1 I') R') :=
  ⟨k.1, fun b hb => ⟨(k.2 b hb).1, (k.2 b hb).2.1, (hI b hb).trans (k.2 b hb).2.2.1, (hR b hb).trans (k.2 b hb).2.2.2⟩⟩
theorem Ke.kr {ρ c : Nat} {h h' : gd_H} (k : Ke c h h') (hρ : ρ ≤ gS h) : Kr ρ c h h' := ⟨k.1, fun b hb => k.2 b (by omega)⟩
theorem Ke.krt {ρ c c1 c2 : Nat} {h1 h2 h3 : gd_H} (a : Ke c1 h1 h2) (b : Kr ρ c2 h2 h3) (hρ : ρ ≤ gS h1) (hc : c1 + c2 ≤ c) : Kr ρ c h1 h3 := by
  obtain ⟨⟨a1, a2, a3⟩, a4⟩ := a
  obtain ⟨⟨b1, b2, b3⟩, b4⟩ := b
  refine ⟨⟨by omega, by omega, by omega⟩, fun x hx => ?_⟩
  obtain ⟨x1, x2, x3, x4⟩ := a4 x (by omega)
  obtain ⟨y1, y2, y3, y4⟩ := b4 x hx
  exact ⟨y1.trans x1, y2.trans x2, y3.trans x3, y4.trans x4⟩
theorem Kr.up {ρ c c' : Nat} {h h' : gd_H} (k : Kr ρ c h h') (hc : c ≤ c') : Kr ρ c' h h' := ⟨⟨k.1.1, by have := k.1.2.1; omega, by have := k.1.2.2; omega⟩, k.2⟩
theorem RB.ke {h h' : gd_H} {ρ c : Nat} {X : gdX} (hb : RB h ρ X) (k : Ke c h h') : RB h' ρ X := by
  obtain ⟨⟨b1, b2, b3, b4⟩, b5, b6, ⟨b7, b8⟩, hX⟩ := hb
  obtain ⟨x1, x2, x3, x4⟩ := k.2 ρ b8
  obtain ⟨y1, y2, y3, y4⟩ := k.2 97 (by omega)
  exact ⟨⟨x1.trans b1, by rw [x4]; exact b2, y1.trans b3, y2.trans b4⟩, by rw [x3]; exact b5, by rw [y3]; exact b6, ⟨b7, Nat.lt_of_lt_of_le b8 k.1.1⟩, hX⟩
theorem SK.ke {h h' : gd_H} {c : Nat} (hs : SK h) (k : Ke c h h') (hz : 96 ≤ gS h) : SK h' := hs.cg fun b hb => by
  obtain ⟨x1, x2, x3, x4⟩ := k.2 b (by omega)
  exact ⟨x1, x2, x3⟩
theorem nw_rz (h : gd_H) {ρ : Nat} (p o t n s : Nat) (hρ : ρ < gS h) : nw (rz h ρ p o) t n s = rz (nw h t n s) ρ p o := by
  unfold rz nw wI
  simp only [Prod.mk.injEq]
  refine ⟨?_, rfl, rfl, rfl, rfl, rfl, rfl⟩
  funext b j
  show (if b = gS h then 0 else up1 (up1 (gI h) ρ 2 (Int32.ofNat p)) ρ 3 (Int32.ofNat o) b j) = up1 (up1 (fun b j => if b = gS h then 0 else gI h b j) ρ 2 (Int32.ofNat p)) ρ 3 (Int32.ofNat o) b j
  by_cases z : b = gS h
  · have : b ≠ ρ := by omega
    simp [up1, z, show gS h ≠ ρ by omega]
  · by_cases z2 : b = ρ
    · simp [up1, z2, show ρ ≠ gS h by omega]
    · simp [up1, z, z2]
/-- what is thrown at a fault: why, where -/
def WX (ρ c : Nat) (h : gd_H) (k pl a : Nat) (h' : gd_H) : Prop := (4 ≤ a ∧ gT h' a = 11 ∧ gI h' a 6 = Int32.ofNat k ∧ gI h' a 7 = Int32.ofNat pl) ∧ Kr ρ c h h'
def WE (ρ c : Nat) (h : gd_H) (k pl : Nat) (out : Option gd_O) : Prop := ∃ a h', out = some (.inr a, h') ∧ WX ρ c h k pl a h'
theorem WE.up {ρ c c' : Nat} {h : gd_H} {k pl : Nat} {out : Option gd_O} (w : WE ρ c h k pl out) (hc : c ≤ c') : WE ρ c' h k pl out := by
  obtain ⟨a, h', e, w1, w2⟩ := w
  exact ⟨a, h', e, w1, w2.up hc⟩
theorem WE.ke {ρ c c1 c2 : Nat} {h h1 : gd_H} {k pl : Nat} {out : Option gd_O} (w : WE ρ c2 h1 k pl out) (q : Ke c1 h h1) (hρ : ρ ≤ gS h) (hc : c1 + c2 ≤ c) : WE ρ c h k pl out := by
  obtain ⟨a, h', e, w1, w2⟩ := w
  exact ⟨a, h', e, w1, q.krt w2 hρ hc⟩
theorem gxw {h' : gd_H} {a m : Nat} (hm : gd_hd m = []) (ht : gT h' a = 11) (d pc : Nat) (L : List Value) : gx gd_P0 d m pc L a h' = some (.inr a, h') := gx_o _ _ _ _ _ _ _ (by show gd_ctc (gT h' a) pc (gd_hd m) = _; rw [hm, ht]; rfl)
/-- it goes on through a method that does not catch -/
theorem WE.gc {ρ c : Nat} {h : gd_H} {k pl : Nat} {out : Option gd_O} (w : WE ρ c h k pl out) {d m pc q : Nat} {L st : List Value} (hm : gd_hd m = []) : WE ρ c h k pl (gc gd_P0 d m pc q L st out) := by
  obtain ⟨a, h', rfl, w1⟩ := w
  refine ⟨a, h', ?_, w1⟩
  rw [gc_x]
  exact gxw hm w1.1.2.1 _ _ _
theorem WE.eq {ρ c : Nat} {h : gd_H} {k pl : Nat} {out out' : Option gd_O} (w : WE ρ c h k pl out') (e : out = out') : WE ρ c h k pl out := e ▸ w
theorem sp111 {h : gd_H} {a : Nat} (ha : gT h a = 11) (h4 : 4 ≤ a) (x y : Int32) {d : Nat} (hd : 3 ≤ d) : ∃ R', run gd_P0 d 111 [.ref a, .int x, .int y] h = some (.inl none, wR (wI h (up1 (up1 (gI h) a 6 x) a 7 y)) R') ∧ ∀ b, b ≠ a → R' b = gR h b := by
  obtain ⟨d, rfl⟩ : ∃ e, d = e + 1 := ⟨d - 1, by omega⟩
  have e1 : ∃ R', run gd_P0 d 1 [.ref a, .ref 0, .ref 0, .int 0, .int 0] h = some (.inl none, wR h R') ∧ ∀ b, b ≠ a → R' b = gR h b := by
    obtain ⟨d, rfl⟩ : ∃ e, d = e + 1 := ⟨d - 1, by omega⟩
    have e0 : ∃ R', run gd_P0 d 0 [.ref a, .ref 0, .ref 0, .int 0, .int 0] h = some (.inl none, wR h R') ∧ ∀ b, b ≠ a → R' b = gR h b := by
      obtain ⟨d, rfl⟩ : ∃ e, d = e + 1 := ⟨d - 1, by omega⟩
      refine ⟨up1 (up1 (up1 (up1 (up1 (up1 (up1 (gR h) a 0 a) a 1 2) a 2 3) a 1 0) a 3 0) a 0 0) a 2 0, ?_, ?_⟩
      · rw [r0, s0_0, if_pos h4, s0_4]
        simp only [ha, ↓reduceIte]
        rw [s0_41]
        simp only [gT_wR, ha, ↓reduceIte]
        rw [s0_60]
        rfl
      · intro b hb
        rw [up1_nc _ _ _ hb, up1_nc _ _ _ hb, up1_nc _ _ _ hb, up1_nc _ _ _ hb, up1_nc _ _ _ hb, up1_nc _ _ _ hb, up1_nc _ _ _ hb]
    obtain ⟨R', e, hR⟩ := e0
    exact ⟨R', by rw [r1, s1_0, if_pos ha, e, gc_n, s1_9], hR⟩
  obtain ⟨R', e, hR⟩ := e1
  refine ⟨R', ?_, hR⟩
  rw [r111, s111_0, if_pos ha, e, gc_n, s111_8]
  simp only [gT_wR, ha, ↓reduceIte, gI_wR]
  rfl
/-- a fault is made, ready to be thrown -/
theorem wfl {h h1 : gd_H} {ρ c a : Nat} {X : gdX} (hb : RB h ρ X) (k1 : Ke c h h1) (ha : gT h1 a = 11) (h0 : gS h ≤ a) (k pl p o : Nat) {d : Nat} (hd : 3 ≤ d) : ∃ h2, run gd_P0 d 111 [.ref a, .int (Int32.ofNat k), .int (Int32.ofNat pl)] (rz h1 ρ p o) = some (.inl none, h2) ∧ WX ρ c h k pl a h2 := by
  have hρ := hb.2.2.2.1
  obtain ⟨R', e, hR⟩ := sp111 (h := rz h1 ρ p o) (a := a) ha (by omega) (Int32.ofNat k) (Int32.ofNat pl) hd
  refine ⟨_, e, ⟨by omega, ha, ?_, ?_⟩, k1.1, fun b hb => ?_⟩
  · show up1 (up1 _ _ _ _) _ _ _ _ _ = _
    simp [up1]
  · show up1 (up1 _ _ _ _) _ _ _ _ _ = _
    simp [up1]
  · obtain ⟨x1, x2, x3, x4⟩ := k1.2 b (by omega)
    refine ⟨x1, x2, ?_, (hR b (by omega)).trans x4⟩
    show up1 (up1 (gI (rz h1 ρ p o)) _ _ _) _ _ _ b = _
    rw [up1_nc _ _ _ (by omega), up1_nc _ _ _ (by omega), rz_b _ _ _ _ (by omega)]
    exact x3
/-- how a token's reading ends -/
def TR {α : Type} (ρ c : Nat) (h : gd_H) (o : Nat) (val : α → Option Value) : gdQ α → Option gd_O → Prop
  | .inl (k, pl), out => WE ρ c h k pl out
  | .inr (p', a), out => out = some (.inl (val a), rz h ρ p' o)
theorem sp106 {h : gd_H} {ρ : Nat} {X : gdX} (hb : RB h ρ X) {d : Nat} (hd : 4 ≤ d) {p : Nat} (hp : p ≤ xn X) (o : Nat) {c : Nat} (hc : c < 256) : TR ρ 1 h o (fun _ => none) (tS X c p) (run gd_P0 d 106 [.ref ρ, .int (Int32.ofNat c)] (rz h ρ p o)) := by
  obtain ⟨d, rfl⟩ : ∃ e, d = e + 1 := ⟨d - 1, by omega⟩
  have hX : XO X := hb.2.2.2.2
  have hρ := hb.2.2.2.1
  have e0 : run gd_P0 (d + 1) 106 [.ref ρ, .int (Int32.ofNat c)] (rz h ρ p o) = go gd_P0 d 106 4 [.ref ρ, .int (Int32.ofNat c)] [.int (xv X (sk X p))] (rz h ρ (sk X p) o) := by
    rw [r106, s106_0]
    simp only [gT_rz, hb.1.1, ↓reduceIte, sp97 hb (d := d) (by omega) hp o, gc_v]
  rw [e0, s106_4]
  simp only [xv_eq hX _ hc]
  unfold tS
  by_cases z : ch X (sk X p) = c
  · rw [if_pos z, if_pos z]
    simp only [gT_rz, hb.1.1, ↓reduceIte, rz_2, j_s, rz_w2]
    rfl
  · rw [if_neg z, if_neg z]
    obtain ⟨h2, e2, w⟩ := wfl hb (Ke.nw h 11 0 8 (by omega)) (a := gS h) (by rw [gT_nw, if_pos rfl]) (Nat.le_refl _) 1 (sk X p) (sk X p) o (d := d) (by omega)
    rw [nw_rz h _ _ _ _ _ hρ.2, gS_rz]
    have t1 : gT (rz (nw h 11 0 8) ρ (sk X p) o) ρ = 10 := ((Ke.nw h 11 0 8 (by omega)).2 ρ hρ.2).1.trans hb.1.1
    have t2 : gT (rz (nw h 11 0 8) ρ (sk X p) o) (gS h) = 11 := by rw [gT_rz, gT_nw, if_pos rfl]
    rw [if_pos t1, if_pos t2, rz_2]
    refine ⟨gS h, h2, ?_, w⟩
    refine Eq.trans (congrArg (gc gd_P0 d 106 17 20 _ _) e2) ?_
    rw [gc_n, s106_20, if_pos w.1.1]
    exact gxw rfl w.1.2.1 _ _ _
theorem sp109 {h : gd_H} {ρ : Nat} {X : gdX} (hb : RB h ρ X) {d : Nat} (hd : 3 ≤ d) {p : Nat} (hp : p ≤ xn X) (o : Nat) {c : Nat} (hc : c < 256) : run gd_P0 d 109 [.ref ρ, .int (Int32.ofNat c)] (rz h ρ p o) = some (.inl (some (.int (if ch X (sk X p) = c then 1 else 0))), rz h ρ (if ch X (sk X p) = c then sk X p + 1 else sk X p) o) := by
  obtain ⟨d, rfl⟩ : ∃ e, d = e + 1 := ⟨d - 1, by omega⟩
  have hX : XO X := hb.2.2.2.2
  rw [r109, s109_0]
  simp only [gT_rz, hb.1.1, ↓reduceIte, sp97 hb (d := d) (by omega) hp o, gc_v]
  rw [s109_4]
  simp only [xv_eq hX _ hc]
  by_cases z : ch X (sk X p) = c
  · rw [if_pos z, if_pos z, if_pos z, s109_13, if_neg (by decide)]
    simp only [gT_rz, hb.1.1, ↓reduceIte, rz_2, j_s, rz_w2]
    rw [s109_28, if_pos (Or.inr rfl)]
  · rw [if_neg z, if_neg z, if_neg z, s109_13, if_pos rfl, s109_28, if_pos (Or.inl rfl)]
theorem sp107 {h : gd_H} {ρ : Nat} {X : gdX} (hb : RB h ρ X) {d : Nat} (hd : 4 ≤ d) {p : Nat} (hp : p ≤ xn X) {o : Nat} (ho : o < 6) : run gd_P0 d 107 [.ref ρ] (rz h ρ p o) = some (.inl none, rz h ρ p (o + 1)) := by
  obtain ⟨d, rfl⟩ : ∃ e, d = e + 1 := ⟨d - 1, by omega⟩
  rw [r107, s107_0]
  have z : ¬ Int32.ofNat o = 6 := by rw [show (6 : Int32) = Int32.ofNat 6 from rfl, j_eq (by omega) (by omega)]; omega
  simp only [gT_rz, hb.1.1, ↓reduceIte, rz_3, z, j_s, rz_w3]
theorem sp107n {h : gd_H} {ρ : Nat} {X : gdX} (hb : RB h ρ X) {d : Nat} (hd : 4 ≤ d) {p : Nat} (hp : p ≤ xn X) : WE ρ 1 h 3 (sk X p) (run gd_P0 d 107 [.ref ρ] (rz h ρ p 6)) := by
  obtain ⟨d, rfl⟩ : ∃ e, d = e + 1 := ⟨d - 1, by omega⟩
  have hρ := hb.2.2.2.1
  rw [r107, s107_0]
  have k1 := Ke.nw h 11 0 8 (by omega)
  have b1 : RB (nw h 11 0 8) ρ X := hb.ke k1
  rw [gT_rz, if_pos hb.1.1, rz_3, if_pos (show Int32.ofNat 6 = 6 from rfl), nw_rz h _ _ _ _ _ hρ.2, gS_rz, gT_rz, if_pos b1.1.1, sp99 b1 (by omega) hp, gc_v, s107_18]
  have t2 : gT (rz (nw h 11 0 8) ρ (sk X p) 6) (gS h) = 11 := by rw [gT_rz, gT_nw, if_pos rfl]
  rw [if_pos t2]
  obtain ⟨h2, e2, w⟩ := wfl hb k1 (a := gS h) (by rw [gT_nw, if_pos rfl]) (Nat.le_refl _) 3 (sk X p) (sk X p) 6 (d := d) (by omega)
  refine ⟨gS h, h2, ?_, w⟩
  refine Eq.trans (congrArg (gc gd_P0 d 107 18 21 _ _) e2) ?_
  rw [gc_n, s107_21, if_pos w.1.1]
  exact gxw rfl w.1.2.1 _ _ _
theorem sp108 {h : gd_H} {ρ : Nat} {X : gdX} (hb : RB h ρ X) {d : Nat} (hd : 1 ≤ d) (p o : Nat) : run gd_P0 d 108 [.ref ρ] (rz h ρ p (o + 1)) = some (.inl none, rz h ρ p o) := by
  obtain ⟨d, rfl⟩ : ∃ e, d = e + 1 := ⟨d - 1, by omega⟩
  have e : Int32.ofNat (o + 1) - 1 = Int32.ofNat o := j_sub (m := o + 1) (n := 1) (by omega)
  rw [r108, s108_0]
  simp only [gT_rz, hb.1.1, ↓reduceIte, rz_3, e, rz_w3]
theorem sp110 {h : gd_H} {ρ : Nat} {X : gdX} (hb : RB h ρ X) {d : Nat} (hd : 4 ≤ d) {p : Nat} (hp : p ≤ xn X) (o : Nat) : TR ρ 1 h o (fun (_ : Unit) => none) (if sk X p < xn X then .inl (1, sk X p) else .inr (sk X p, ())) (run gd_P0 d 110 [.ref ρ] (rz h ρ p o)) := by
  obtain ⟨d, rfl⟩ : ∃ e, d = e + 1 := ⟨d - 1, by omega⟩
  have hX : XO X := hb.2.2.2.2
  have hρ := hb.2.2.2.1
  have e0 : run gd_P0 (d + 1) 110 [.ref ρ] (rz h ρ p o) = go gd_P0 d 110 4 [.ref ρ] [.int (xv X (sk X p))] (rz h ρ (sk X p) o) := by
    rw [r110, s110_0]
    simp only [gT_rz, hb.1.1, ↓reduceIte, sp97 hb (d := d) (by omega) hp o, gc_v]
  rw [e0, s110_4]
  simp only [xv_m1 hX]
  by_cases z : sk X p < xn X
  · rw [if_pos z, if_neg (by rw [ch_256 hX]; omega)]
    obtain ⟨h2, e2, w⟩ := wfl hb (Ke.nw h 11 0 8 (by omega)) (a := gS h) (by rw [gT_nw, if_pos rfl]) (Nat.le_refl _) 1 (sk X p) (sk X p) o (d := d) (by omega)
    rw [nw_rz h _ _ _ _ _ hρ.2, gS_rz]
    have t1 : gT (rz (nw h 11 0 8) ρ (sk X p) o) ρ = 10 := ((Ke.nw h 11 0 8 (by omega)).2 ρ hρ.2).1.trans hb.1.1
    have t2 : gT (rz (nw h 11 0 8) ρ (sk X p) o) (gS h) = 11 := by rw [gT_rz, gT_nw, if_pos rfl]
    rw [if_pos t1, if_pos t2, rz_2]
    refine ⟨gS h, h2, ?_, w⟩
    refine Eq.trans (congrArg (gc gd_P0 d 110 17 20 _ _) e2) ?_
    rw [gc_n, s110_20, if_pos w.1.1]
    exact gxw rfl w.1.2.1 _ _ _
  · rw [if_neg z, if_pos (by rw [ch_256 hX]; omega)]
    rfl
theorem sp103 {h : gd_H} {ρ : Nat} {X : gdX} (hb : RB h ρ X) {d : Nat} (hd : 2 ≤ d) {p : Nat} (hp : p ≤ xn X) (o : Nat) : run gd_P0 d 103 [.ref ρ] (rz h ρ p o) = some (.inl none, rz h ρ (we X p) o) := by
  obtain ⟨d, rfl⟩ : ∃ e, d = e + 1 := ⟨d - 1, by omega⟩
  have hX : XO X := hb.2.2.2.2
  have hn : xn X ≤ 600 := hX.1
  rw [r103]
  have st : ∀ j, j ≤ xn X → go gd_P0 d 103 0 [.ref ρ] [] (rz h ρ j o) = if sml (ch X j) = true then go gd_P0 d 103 0 [.ref ρ] [] (rz h ρ (j + 1) o) else some (.inl none, rz h ρ j o) := by
    intro j hj
    have e := sp98 hb (d := d) (by omega) j o (k := j) (by omega)
    rw [s103_0]
    simp only [gT_rz, hb.1.1, rz_2, e, ↓reduceIte, gc_v]
    rw [s103_8, sp102 hX (d := d) (by omega) j, gc_v, s103_11]
    by_cases z : sml (ch X j) = true
    · rw [if_pos z, if_neg (by decide), if_pos z]
      simp only [gT_rz, hb.1.1, rz_2, ↓reduceIte, j_s, rz_w2]
    · rw [if_neg z, if_pos rfl, if_neg z]
  refine ce_lp (fun j => go gd_P0 d 103 0 [.ref ρ] [] (rz h ρ j o)) (fun j => some (.inl none, rz h ρ j o)) (fun j => sml (xb X j)) (xn X - p) p (fun j a b => ?_) ?_
  · have := st j (by omega)
    rw [ch_in (by omega)] at this
    exact this
  · have := st (p + (xn X - p)) (by omega)
    rw [ch_end (by omega)] at this
    exact this
theorem hi_ok {hs : Nat} (h : hs ≤ 1001) {v : Nat} (hv : v ≤ 1000000) : (Int32.ofNat v ≤ Int32.ofNat hs - 1) = (v < hs) := by
  refine propext ?_
  rw [Int32.le_iff_toInt_le, Int32.toInt_sub, j_ti (by omega), j_ti (by omega), Int32.toInt_one, Int.bmod_eq_of_le (by omega) (by omega)]
  omega
theorem hi_lit {n : Nat} (h : n ≤ 1000) {v : Nat} (hv : v ≤ 1000000) : (Int32.ofNat v ≤ Int32.ofNat n) = (v < n + 1) := by
  rw [j_le (by omega) (by omega)]
  exact propext ⟨fun z => by omega, fun z => by omega⟩
/-- the digits -/
theorem lp104 {h : gd_H} {ρ : Nat} {X : gdX} (hb : RB h ρ X) {d : Nat} (hd : 1 ≤ d) (o : Nat) (lo hi : Int32) (q : Nat) : ∀ (m j v va : Nat), j + m = xn X → v ≤ 1000000 → min v 10000 = va → ∃ v', v' ≤ 1000000 ∧ min v' 10000 = dv (xb X) (ce (fun j => dgt (xb X j)) m j - j) j va ∧
    go gd_P0 d 104 35 [.ref ρ, .int lo, .int hi, .int (Int32.ofNat q), .int (Int32.ofNat v)] [] (rz h ρ j o) = if Int32.ofNat v' < lo then go gd_P0 d 104 98 [.ref ρ, .int lo, .int hi, .int (Int32.ofNat q), .int (Int32.ofNat v')] [] (rz h ρ (ce (fun j => dgt (xb X j)) m j) o) else if Int32.ofNat v' ≤ hi then some (.inl (some (.int (Int32.ofNat v'))), rz h ρ (ce (fun j => dgt (xb X j)) m j) o) else go gd_P0 d 104 98 [.ref ρ, .int lo, .int hi, .int (Int32.ofNat q), .int (Int32.ofNat v')] [] (rz h ρ (ce (fun j => dgt (xb X j)) m j) o) := by
  have hX : XO X := hb.2.2.2.2
  have hn : xn X ≤ 600 := hX.1
  have st : ∀ j v, j ≤ xn X → go gd_P0 d 104 35 [.ref ρ, .int lo, .int hi, .int (Int32.ofNat q), .int (Int32.ofNat v)] [] (rz h ρ j o) = go gd_P0 d 104 46 [.ref ρ, .int lo, .int hi, .int (Int32.ofNat q), .int (Int32.ofNat v)] [.int (if dgt (ch X j) = true then 1 else 0)] (rz h ρ j o) := by
    intro j v hj
    rw [s104_35]
    simp only [gT_rz, hb.1.1, ↓reduceIte, rz_2, sp98 hb hd j o (k := j) (by omega), gc_v]
    rw [s104_43, sp105 hX hd j, gc_v]
  intro m
  induction m with
  | zero =>
    intro j v va hj hv ha
    refine ⟨v, hv, by rw [ce, Nat.sub_self, dv]; exact ha, ?_⟩
    rw [ce, st j v (by omega), ch_end (by omega), if_neg (by decide), s104_46, if_pos rfl]
  | succ m ih =>
    intro j v va hj hv ha
    by_cases z : dgt (xb X j) = true
    · have e1 : ce (fun j => dgt (xb X j)) (m + 1) j = ce (fun j => dgt (xb X j)) m (j + 1) := by rw [ce, if_pos z]
      have hx : 48 ≤ xb X j ∧ xb X j ≤ 57 := of_decide_eq_true z
      have e2 : go gd_P0 d 104 35 [.ref ρ, .int lo, .int hi, .int (Int32.ofNat q), .int (Int32.ofNat v)] [] (rz h ρ j o) = go gd_P0 d 104 35 [.ref ρ, .int lo, .int hi, .int (Int32.ofNat q), .int (Int32.ofNat (min (10 * v + (xb X j - 48)) 1000000))] [] (rz h ρ (j + 1) o) := by
        rw [st j v (by omega), ch_in (by omega), if_pos z, s104_46, if_neg (by decide)]
        simp only [gT_rz, hb.1.1, ↓reduceIte, rz_2, sp98 hb hd j o (k := j) (by omega), gc_v, xv_in (show j < xn X by omega)]
        rw [s104_62]
        have a1 : (10 : Int32) * Int32.ofNat v + Int32.ofNat (xb X j) - 48 = Int32.ofNat (10 * v + (xb X j - 48)) := by
          rw [show (10 : Int32) = Int32.ofNat 10 from rfl, j_mul, j_add, show (48 : Int32) = Int32.ofNat 48 from rfl, j_sub (by omega)]
          congr 1
          omega
        have a2 : (if (1000000 : Int32) < Int32.ofNat (10 * v + (xb X j - 48)) then (1000000 : Int32) else Int32.ofNat (10 * v + (xb X j - 48))) = Int32.ofNat (min (10 * v + (xb X j - 48)) 1000000) := by
          rw [show (1000000 : Int32) = Int32.ofNat 1000000 from rfl]
          simp only [j_lt (show 1000000 < 2147483648 by omega) (show 10 * v + (xb X j - 48) < 2147483648 by omega)]
          split
          · rw [Nat.min_eq_right (by omega)]
          · rw [Nat.min_eq_left (by omega)]
        rw [a1, a2, s104_71]
        simp only [gT_rz, hb.1.1, ↓reduceIte, rz_2, j_s, rz_w2]
      obtain ⟨v', h1, h2, h3⟩ := ih (j + 1) (min (10 * v + (xb X j - 48)) 1000000) (min (10 * va + (xb X j - 48)) 10000) (by omega) (by omega) (by omega)
      have g := ce_ge (fun j => dgt (xb X j)) m (j + 1)
      refine ⟨v', h1, ?_, ?_⟩
      · rw [h2, e1, show ce (fun j => dgt (xb X j)) m (j + 1) - j = (ce (fun j => dgt (xb X j)) m (j + 1) - (j + 1)) + 1 by omega, dv]
      · rw [e2, h3, e1]
    · have e1 : ce (fun j => dgt (xb X j)) (m + 1) j = j := by rw [ce, if_neg z]
      refine ⟨v, hv, by rw [e1, Nat.sub_self, dv]; exact ha, ?_⟩
      rw [e1, st j v (by omega), ch_in (by omega), if_neg z, s104_46, if_pos rfl]
theorem sp104 {h : gd_H} {ρ : Nat} {X : gdX} (hb : RB h ρ X) {d : Nat} (hd : 4 ≤ d) {p : Nat} (hp : p ≤ xn X) (o : Nat) {l hs : Nat} (hl : l ≤ 1) (hhs : hs ≤ 1001) {hi : Int32} (hh : ∀ v, v ≤ 1000000 → (Int32.ofNat v ≤ hi) = (v < hs)) : TR ρ 1 h o (fun v => some (.int (Int32.ofNat v))) (tN X l hs p) (run gd_P0 d 104 [.ref ρ, .int (Int32.ofNat l), .int hi] (rz h ρ p o)) := by
  obtain ⟨d, rfl⟩ : ∃ e, d = e + 1 := ⟨d - 1, by omega⟩
  have hX : XO X := hb.2.2.2.2
  have hn : xn X ≤ 600 := hX.1
  have hρ := hb.2.2.2.1
  have g2 := sk_le hp
  have e0 : run gd_P0 (d + 1) 104 [.ref ρ, .int (Int32.ofNat l), .int hi] (rz h ρ p o) = go gd_P0 d 104 19 [.ref ρ, .int (Int32.ofNat l), .int hi, .int (Int32.ofNat (sk X p)), .int 0] [.int (if dgt (ch X (sk X p)) = true then 1 else 0)] (rz h ρ (sk X p) o) := by
    rw [r104, s104_0, gT_rz, if_pos hb.1.1, sp99 hb (by omega) hp, gc_v, s104_4]
    simp only [gT_rz, hb.1.1, ↓reduceIte, rz_2, sp98 hb (d := d) (by omega) (sk X p) o (k := sk X p) (by omega), gc_v]
    rw [s104_16, sp105 hX (by omega) (sk X p), gc_v]
  rw [e0, s104_19]
  unfold tN
  have wf : ∀ q, q ≤ xn X → ∀ k, ∃ h2, run gd_P0 d 111 [.ref (gS h), .int (Int32.ofNat k), .int (Int32.ofNat (sk X p))] (rz (nw h 11 0 8) ρ q o) = some (.inl none, h2) ∧ WX ρ 1 h k (sk X p) (gS h) h2 := fun q hq k => wfl hb (Ke.nw h 11 0 8 (by omega)) (a := gS h) (by rw [gT_nw, if_pos rfl]) (Nat.le_refl _) k (sk X p) q o (d := d) (by omega)
  have t2 : ∀ q, gT (rz (nw h 11 0 8) ρ q o) (gS h) = 11 := fun q => by rw [gT_rz, gT_nw, if_pos rfl]
  by_cases z : dgt (ch X (sk X p)) = true
  · rw [if_pos z, if_pos z, if_neg (show ¬ (1 : Int32) = 0 by decide)]
    obtain ⟨v', h1, h2, h3⟩ := lp104 hb (d := d) (by omega) o (Int32.ofNat l) hi (sk X p) (xn X - sk X p) (sk X p) 0 0 (by omega) (by omega) (by omega)
    have h3 : go gd_P0 d 104 35 [.ref ρ, .int (Int32.ofNat l), .int hi, .int (Int32.ofNat (sk X p)), .int 0] [] (rz h ρ (sk X p) o) = _ := h3
    rw [h3]
    have er : WE ρ 1 h 2 (sk X p) (go gd_P0 d 104 98 [.ref ρ, .int (Int32.ofNat l), .int hi, .int (Int32.ofNat (sk X p)), .int (Int32.ofNat v')] [] (rz h ρ (de X (sk X p)) o)) := by
      obtain ⟨h2, e2, w⟩ := wf (de X (sk X p)) (de_le g2) 2
      rw [s104_98, nw_rz h _ _ _ _ _ hρ.2, gS_rz, if_pos (t2 _)]
      refine ⟨gS h, h2, ?_, w⟩
      refine Eq.trans (congrArg (gc gd_P0 d 104 104 107 _ _) e2) ?_
      rw [gc_n, s104_107, if_pos w.1.1]
      exact gxw rfl w.1.2.1 _ _ _
    have h2 : min v' 10000 = dv (xb X) (de X (sk X p) - sk X p) (sk X p) 0 := h2
    show TR ρ 1 h o _ _ (if Int32.ofNat v' < Int32.ofNat l then _ else if Int32.ofNat v' ≤ hi then some (.inl (some (.int (Int32.ofNat v'))), rz h ρ (de X (sk X p)) o) else _)
    rw [← h2]
    simp only [j_lt (show v' < 2147483648 by omega) (show l < 2147483648 by omega), hh v' h1]
    by_cases c1 : v' < l
    · rw [if_pos c1, if_neg (by omega)]; exact er
    · rw [if_neg c1]
      by_cases c2 : v' < hs
      · rw [if_pos c2, if_pos (by omega), show min v' 10000 = v' by omega]; rfl
      · rw [if_neg c2, if_neg (by omega)]; exact er
  · rw [if_neg z, if_neg z, if_pos rfl]
    obtain ⟨h2, e2, w⟩ := wf (sk X p) g2 1
    have t1 : gT (rz (nw h 11 0 8) ρ (sk X p) o) ρ = 10 := ((Ke.nw h 11 0 8 (by omega)).2 ρ hρ.2).1.trans hb.1.1
    rw [nw_rz h _ _ _ _ _ hρ.2, gS_rz, if_pos t1, if_pos (t2 _), rz_2]
    refine ⟨gS h, h2, ?_, w⟩
    refine Eq.trans (congrArg (gc gd_P0 d 104 31 34 _ _) e2) ?_
    rw [gc_n, s104_34, if_pos w.1.1]
    exact gxw rfl w.1.2.1 _ _ _
theorem ltr_at {X : gdX} {q k : Nat} (h : k < (ltr X q).length) : (ltr X q)[k]? = some (xb X (q + k)) := lts_at _ _ _ _ h
/-- does a word stand here -/
theorem sp101 {h : gd_H} {ρ : Nat} {X : gdX} (hb : RB h ρ X) (hs : SK h) {d : Nat} (hd : 5 ≤ d) {p : Nat} (hp : p ≤ xn X) (o : Nat) {j : Nat} (hj : j < 40) : run gd_P0 d 101 [.ref ρ, .ref (8 + 2 * j)] (rz h ρ p o) = some (.inl (some (.int (if ltr X (sk X p) = wds.getD j [] then 1 else 0))), rz h ρ (sk X p) o) := by
  obtain ⟨d, rfl⟩ : ∃ e, d = e + 1 := ⟨d - 1, by omega⟩
  have hX : XO X := hb.2.2.2.2
  have hn : xn X ≤ 600 := hX.1
  have hρ := hb.2.2.2.1
  have g2 := sk_le hp
  rw [r101, s101_0, gT_rz, if_pos hb.1.1, sp99 hb (by omega) hp, gc_v, s101_4]
  generalize hq : sk X p = q at g2
  have hs2 : SK (rz h ρ q o) := hs.rz hρ.1 q o
  obtain ⟨w1, w2, w3⟩ := wds_g j hj
  have t1 : gT (rz h ρ q o) (8 + 2 * j) = 23 ∧ 8 + 2 * j < 96 := ⟨(hs2 j hj).1.1, by omega⟩
  have st : ∀ i, i ≤ xn X → q ≤ i → go gd_P0 d 101 7 [.ref ρ, .ref (8 + 2 * j), .int (Int32.ofNat q), .int (Int32.ofNat (i - q)), .null] [] (rz h ρ q o) = if sml (ch X i) = true then go gd_P0 d 101 7 [.ref ρ, .ref (8 + 2 * j), .int (Int32.ofNat q), .int (Int32.ofNat (i + 1 - q)), .null] [] (rz h ρ q o) else go gd_P0 d 101 31 [.ref ρ, .ref (8 + 2 * j), .int (Int32.ofNat q), .int (Int32.ofNat (i - q)), .null] [.int (Int32.ofNat (wds.getD j []).length), .int (Int32.ofNat (i - q))] (rz h ρ q o) := by
    intro i h1 h2
    rw [s101_7, gT_rz, if_pos hb.1.1, j_add, show q + (i - q) = i by omega, sp98 hb (by omega) q o (k := i) (by omega), gc_v, s101_14, sp102 hX (by omega) i, gc_v, s101_17]
    by_cases z : sml (ch X i) = true
    · rw [if_pos z, if_neg (by decide), if_pos z, j_s, show i - q + 1 = i + 1 - q by omega]
    · rw [if_neg z, if_pos rfl, if_neg z, if_pos t1, sp5 hs2 (by omega) hj, gc_v]
  have L := ce_lp (fun i => go gd_P0 d 101 7 [.ref ρ, .ref (8 + 2 * j), .int (Int32.ofNat q), .int (Int32.ofNat (i - q)), .null] [] (rz h ρ q o)) (fun i => go gd_P0 d 101 31 [.ref ρ, .ref (8 + 2 * j), .int (Int32.ofNat q), .int (Int32.ofNat (i - q)), .null] [.int (Int32.ofNat (wds.getD j []).length), .int (Int32.ofNat (i - q))] (rz h ρ q o)) (fun i => sml (xb X i)) (xn X - q) q (fun i a b => by
    have := st i (by omega) a
    rw [ch_in (by omega)] at this
    exact this) (by
    have := st (q + (xn X - q)) (by omega) (by omega)
    rw [ch_end (by omega)] at this
    exact this)
  have L2 : go gd_P0 d 101 7 [.ref ρ, .ref (8 + 2 * j), .int (Int32.ofNat q), .int (Int32.ofNat (q - q)), .null] [] (rz h ρ q o) = go gd_P0 d 101 31 [.ref ρ, .ref (8 + 2 * j), .int (Int32.ofNat q), .int (Int32.ofNat (we X q - q)), .null] [.int (Int32.ofNat (wds.getD j []).length), .int (Int32.ofNat (we X q - q))] (rz h ρ q o) := L
  rw [Nat.sub_self] at L2
  have L3 : go gd_P0 d 101 7 [.ref ρ, .ref (8 + 2 * j), .int (Int32.ofNat q), .int 0, .null] [] (rz h ρ q o) = _ := L2
  rw [L3, s101_31]
  have gl := ltr_len X q
  have gw := we_le g2
  have el : we X q - q = (ltr X q).length := by omega
  rw [el]
  simp only [j_eq (show (ltr X q).length < 2147483648 by omega) (show (wds.getD j []).length < 2147483648 by omega)]
  by_cases c : (ltr X q).length = (wds.getD j []).length
  · rw [if_pos c]
    have M := lp_fi (fun k => go gd_P0 d 101 39 [.ref ρ, .ref (8 + 2 * j), .int (Int32.ofNat q), .int (Int32.ofNat (ltr X q).length), .int (Int32.ofNat k)] [] (rz h ρ q o)) (fun v => some (.inl (some (.int v)), rz h ρ q o)) (fun k => decide (xb X (q + k) ≠ (wds.getD j []).getD k 0)) (fun _ => (0 : Int32)) 1 (ltr X q).length 0 (fun k a b => by
        try dsimp only
        have hk : k < (wds.getD j []).length := by omega
        have x1 := w3 k hk
        have x2 := hX.2 (q + k) (by omega)
        rw [s101_39, if_neg (by rw [j_le (by omega) (by omega)]; omega), gT_rz, if_pos hb.1.1, j_add, sp98 hb (by omega) q o (k := q + k) (by omega), gc_v, s101_53, if_pos t1, sp7 hs2 (by omega) hj hk, gc_v, s101_59, xv_in (by omega)]
        simp only [j_eq (show xb X (q + k) < 2147483648 by omega) (show (wds.getD j []).getD k 0 < 2147483648 by omega), j_s, decide_eq_true_eq, ne_eq]
        by_cases z : xb X (q + k) = (wds.getD j []).getD k 0
        · rw [if_pos z, if_neg (fun y => y z)]
        · rw [if_neg z, if_pos z]) (by
        try dsimp only
        rw [Nat.zero_add, s101_39, if_pos (by rw [j_le (by omega) (by omega)]; omega)])
    refine Eq.trans M ?_
    try dsimp only
    rcases fi_or (c := fun k => decide (xb X (q + k) ≠ (wds.getD j []).getD k 0)) (R := fun _ => (0 : Int32)) (e := (1 : Int32)) (ltr X q).length 0 with ⟨f1, f2⟩ | ⟨k, f1, f2, f3, f4, f5⟩
    · rw [f1, if_pos]
      refine List.ext_getElem? fun k => ?_
      by_cases hk : k < (ltr X q).length
      · have := of_decide_eq_false (f2 k (by omega) (by omega))
        rw [ltr_at hk, Classical.not_not.mp this]
        rw [List.getD_eq_getElem?_getD, List.getElem?_eq_getElem (by omega)]
        rfl
      · rw [List.getElem?_eq_none (by omega), List.getElem?_eq_none (by omega)]
    · rw [f4, if_neg]
      intro e
      have x1 : k < (ltr X q).length := by omega
      have x2 := ltr_at x1
      rw [e] at x2
      refine of_decide_eq_true f3 ?_
      rw [List.getD_eq_getElem?_getD, x2]
      rfl
  · rw [if_neg c, if_neg (fun e => c (by rw [e]))]
/-- which of some words -/
theorem lp100 {h : gd_H} {ρ ω : Nat} {X : gdX} (hb : RB h ρ X) (hs : SK h) (hω : ω ≠ ρ) (ht : gT h ω = 38) {b : Nat} {w : List Nat} {N : Nat} (hN : gL h ω = N) (hN2 : N < 100) {d : Nat} (hd : 5 ≤ d) (o q : Nat) (hw : ltr X q = w) : ∀ (ws : List (List Nat)) (k p : Nat), k + ws.length = N → b + N ≤ 40 → p ≤ xn X → sk X p = q → (∀ i, i < ws.length → gR h ω (k + i) = 8 + 2 * (b + (k + i)) ∧ wds.getD (b + (k + i)) [] = ws.getD i []) → go gd_P0 d 100 2 [.ref ρ, .ref ω, .int (Int32.ofNat k)] [] (rz h ρ p o) = some (.inl (some (.int (if wix w ws < ws.length then Int32.ofNat (k + wix w ws) else -1))), rz h ρ (if ws = [] then p else q) o)
  | [], k, p, h1, h2, h3, h4, h5 => by
    have h1 : k + 0 = N := h1
    rw [s100_2, gT_rz, if_pos ht, gL_rz, hN, if_pos (by rw [j_le (by omega) (by omega)]; omega), if_neg (show ¬ wix w [] < ([] : List (List Nat)).length from Nat.not_lt_zero _), if_pos rfl]
  | v :: vs, k, p, h1, h2, h3, h4, h5 => by
    have h1 : k + (vs.length + 1) = N := h1
    obtain ⟨x1, x2⟩ := h5 0 (Nat.succ_pos _)
    rw [Nat.add_zero] at x1 x2
    have x2 : wds.getD (b + k) [] = v := x2
    have e := sp101 hb hs (d := d) (by omega) h3 o (j := b + k) (by omega)
    rw [x2, h4, hw] at e
    rw [s100_2, gT_rz, if_pos ht, gL_rz, hN, if_neg (by rw [j_le (by omega) (by omega)]; omega), if_pos ⟨ht, by rw [j_ix (by omega) (by omega)]; exact trivial⟩, if_pos hb.1.1, gR_rz, j_cl (by omega), x1, e, gc_v, s100_15, if_neg (List.cons_ne_nil v vs), wix]
    by_cases z : w = v
    · rw [if_pos z, if_pos z, if_neg (by decide), if_pos (show 0 < (v :: vs).length from Nat.succ_pos _), Nat.add_zero]
    · rw [if_neg z, if_neg z, if_pos rfl, j_s]
      have := lp100 hb hs hω ht hN hN2 hd o q hw vs (k + 1) q (by omega) h2 (by rw [← h4]; exact sk_le h3) (by rw [← h4]; exact sk_sk h3) (fun i hi => by
        have := h5 (i + 1) (Nat.succ_lt_succ hi)
        rw [show k + (i + 1) = k + 1 + i by omega] at this
        exact this)
      rw [this, ite_self, List.length_cons]
      by_cases y : wix w vs < vs.length
      · rw [if_pos y, if_pos (by omega), show k + 1 + wix w vs = k + (wix w vs + 1) by omega]
      · rw [if_neg y, if_neg (by omega)]
theorem sp100 {h : gd_H} {ρ ω : Nat} {X : gdX} (hb : RB h ρ X) (hs : SK h) (hω : ω ≠ ρ) (ht : gT h ω = 38) {b : Nat} {ws : List (List Nat)} (hN : gL h ω = ws.length) (hN0 : ws ≠ []) (hN2 : ws.length < 100) (hB : b + ws.length ≤ 40) (h5 : ∀ i, i < ws.length → gR h ω i = 8 + 2 * (b + i) ∧ wds.getD (b + i) [] = ws.getD i []) {d : Nat} (hd : 6 ≤ d) {p : Nat} (hp : p ≤ xn X) (o : Nat) : run gd_P0 d 100 [.ref ρ, .ref ω] (rz h ρ p o) = some (.inl (some (.int (if wix (ltr X (sk X p)) ws < ws.length then Int32.ofNat (wix (ltr X (sk X p)) ws) else -1))), rz h ρ (sk X p) o) := by
  obtain ⟨d, rfl⟩ : ∃ e, d = e + 1 := ⟨d - 1, by omega⟩
  have := lp100 hb hs hω ht hN hN2 (d := d) (by omega) o (sk X p) rfl ws 0 p (by omega) hB hp rfl (fun i hi => by rw [Nat.zero_add]; exact h5 i hi)
  rw [r100, s100_0, show (0 : Int32) = Int32.ofNat 0 from rfl, this, if_neg hN0, Nat.zero_add]

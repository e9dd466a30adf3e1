/-! ===== WORK: the model lays codes ===== -/
set_option maxRecDepth 100000
/-- codes in an array, three cells each; an again's third: where its steps end -/
def CM (I : Nat → Int32) : Nat → List (Nat × Nat × Nat) → Prop
  | _, [] => True
  | c, a :: cs => (I (3 * c) = Int32.ofNat a.1 ∧ I (3 * c + 1) = Int32.ofNat a.2.1 ∧ I (3 * c + 2) = Int32.ofNat (if a.1 = 7 then 3 * (c + 1 + a.2.2) else a.2.2)) ∧ CM I (c + 1) cs
theorem CM_app {I : Nat → Int32} : ∀ (a b : List (Nat × Nat × Nat)) (c : Nat), CM I c (a ++ b) ↔ CM I c a ∧ CM I (c + a.length) b
  | [], b, c => ⟨fun h => ⟨trivial, h⟩, fun h => h.2⟩
  | x :: a, b, c => by
    have := CM_app (I := I) a b (c + 1)
    rw [show c + 1 + a.length = c + (x :: a).length by rw [List.length_cons]; omega] at this
    exact ⟨fun h => ⟨⟨h.1, (this.mp h.2).1⟩, (this.mp h.2).2⟩, fun h => ⟨h.1.1, this.mpr ⟨h.1.2, h.2⟩⟩⟩
theorem CM_cg {I I' : Nat → Int32} : ∀ (a : List (Nat × Nat × Nat)) (c : Nat), (∀ i, 3 * c ≤ i → i < 3 * (c + a.length) → I' i = I i) → CM I c a → CM I' c a
  | [], c, h, _ => trivial
  | x :: a, c, h, hh => by
    rw [List.length_cons] at h
    refine ⟨?_, CM_cg a (c + 1) (fun i h1 h2 => h i (by omega) (by omega)) hh.2⟩
    rw [h (3 * c) (by omega) (by omega), h (3 * c + 1) (by omega) (by omega), h (3 * c + 2) (by omega) (by omega)]
    exact hh.1
/-- codes are laid behind the c-th -/
def VWc (c : Nat) (cs : List (Nat × Nat × Nat)) (h h' : gd_H) : Prop := ∃ I', h' = wI h I' ∧ (∀ b, b ≠ 1248 → b ≠ 1231 → I' b = gI h b) ∧ (∀ j, j ≠ 32 → I' 1231 j = gI h 1231 j) ∧ I' 1231 32 = Int32.ofNat (3 * (c + cs.length)) ∧ (∀ i, i < 3 * c → I' 1248 i = gI h 1248 i) ∧ CM (I' 1248) c cs
theorem VWc.refl {c : Nat} {h : gd_H} (hc : gI h 1231 32 = Int32.ofNat (3 * c)) : VWc c [] h h := ⟨gI h, (wI_self h).symm, fun _ _ _ => rfl, fun _ _ => rfl, hc, fun _ _ => rfl, trivial⟩
theorem VWc.trans {c : Nat} {a b : List (Nat × Nat × Nat)} {h1 h2 h3 : gd_H} (x : VWc c a h1 h2) (y : VWc (c + a.length) b h2 h3) : VWc c (a ++ b) h1 h3 := by
  obtain ⟨I1, rfl, x1, x2, x3, x4, x5⟩ := x
  obtain ⟨I2, rfl, y1, y2, y3, y4, y5⟩ := y
  refine ⟨I2, wI_wI _ _ _, fun q h1 h2 => (y1 q h1 h2).trans (x1 q h1 h2), fun j hj => (y2 j hj).trans (x2 j hj), ?_, fun i hi => (y4 i (by omega)).trans (x4 i hi), (CM_app a b c).mpr ⟨CM_cg a c (fun i h1 h2 => y4 i h2) x5, y5⟩⟩
  rw [y3, List.length_append, Nat.add_assoc]
theorem MB.vw {h h' : gd_H} {X : gdX} {c : Nat} {cs : List (Nat × Nat × Nat)} (hb : MB h X) (w : VWc c cs h h') : MB h' X := by
  obtain ⟨I', rfl, x1, x2, -⟩ := w
  obtain ⟨hm, ⟨h3, h5⟩, hB, hX⟩ := hb
  exact ⟨hm, ⟨(x2 3 (by omega)).trans h3, (x2 5 (by omega)).trans h5⟩, fun j hj => by show I' 1233 j = _; rw [x1 1233 (by omega) (by omega)]; exact hB j hj, hX⟩
theorem VWc.mz {h h' : gd_H} {c : Nat} {cs : List (Nat × Nat × Nat)} (w : VWc c cs h h') : MZ h h' := by
  obtain ⟨I', rfl, x1, x2, -⟩ := w
  exact ⟨I', gJ h, rfl, fun b hb => x1 b (by unfold mper at hb; omega) (by unfold mper at hb; omega), fun j hj => x2 j (fun z => by rw [z] at hj; exact absurd hj (by decide)), fun _ _ => rfl⟩
theorem VWc.z0 {h h' : gd_H} {c : Nat} {cs : List (Nat × Nat × Nat)} (w : VWc c cs h h') : MZ0 h h' := by
  refine ⟨w.mz, ?_⟩
  obtain ⟨I', rfl, x1, x2, -⟩ := w
  exact x2 0 (by omega)
theorem VWc.c {h h' : gd_H} {c : Nat} {cs : List (Nat × Nat × Nat)} (w : VWc c cs h h') : gI h' 1231 32 = Int32.ofNat (3 * (c + cs.length)) := by
  obtain ⟨I', rfl, x1, x2, x3, -⟩ := w
  exact x3
theorem VWc.j {h h' : gd_H} {c : Nat} {cs : List (Nat × Nat × Nat)} (w : VWc c cs h h') {j : Nat} (hj : j ≠ 32) : gI h' 1231 j = gI h 1231 j := by
  obtain ⟨I', rfl, x1, x2, x3, -⟩ := w
  exact x2 j hj
/-- what a laying writes -/
def lyc (h : gd_H) (c : Nat) (k x y : Int32) : gd_H := wI h (up1 (up1 (up1 (up1 (gI h) 1248 (3 * c) k) 1248 (3 * c + 1) x) 1248 (3 * c + 2) y) 1231 32 (Int32.ofNat (3 * (c + 1))))
theorem lay_b (h : gd_H) (c : Nat) (k x y : Int32) {b : Nat} (h1 : b ≠ 1248) (h2 : b ≠ 1231) : gI (lyc h c k x y) b = gI h b := by
  unfold lyc
  rw [gI_wI, up1_nc _ _ _ h2, up1_nc _ _ _ h1, up1_nc _ _ _ h1, up1_nc _ _ _ h1]
theorem lay_j (h : gd_H) (c : Nat) (k x y : Int32) {j : Nat} (hj : j ≠ 32) : gI (lyc h c k x y) 1231 j = gI h 1231 j := by
  unfold lyc
  rw [gI_wI, up1_nj _ _ hj, up1_nc _ _ _ (by omega), up1_nc _ _ _ (by omega), up1_nc _ _ _ (by omega)]
theorem lay_32 (h : gd_H) (c : Nat) (k x y : Int32) : gI (lyc h c k x y) 1231 32 = Int32.ofNat (3 * (c + 1)) := by
  unfold lyc
  rw [gI_wI, up1_eq]
theorem lay_i (h : gd_H) (c : Nat) (k x y : Int32) {i : Nat} (hi : i < 3 * c ∨ 3 * c + 2 < i) : gI (lyc h c k x y) 1248 i = gI h 1248 i := by
  unfold lyc
  rw [gI_wI, up1_nc _ _ _ (by omega), up1_nj _ _ (by omega), up1_nj _ _ (by omega), up1_nj _ _ (by omega)]
theorem lay_v (h : gd_H) (c : Nat) (k x y : Int32) : gI (lyc h c k x y) 1248 (3 * c) = k ∧ gI (lyc h c k x y) 1248 (3 * c + 1) = x ∧ gI (lyc h c k x y) 1248 (3 * c + 2) = y := by
  unfold lyc
  rw [gI_wI]
  refine ⟨?_, ?_, ?_⟩
  · rw [up1_nc _ _ _ (by omega), up1_nj _ _ (by omega), up1_nj _ _ (by omega), up1_eq]
  · rw [up1_nc _ _ _ (by omega), up1_nj _ _ (by omega), up1_eq]
  · rw [up1_nc _ _ _ (by omega), up1_eq]
theorem lay_w (h : gd_H) (c k x y : Nat) (hk : k ≠ 7) : VWc c [(k, x, y)] h (lyc h c (Int32.ofNat k) (Int32.ofNat x) (Int32.ofNat y)) := by
  refine ⟨gI (lyc h c (Int32.ofNat k) (Int32.ofNat x) (Int32.ofNat y)), rfl, fun b h1 h2 => lay_b h c _ _ _ h1 h2, fun j hj => lay_j h c _ _ _ hj, lay_32 h c _ _ _, fun i hi => lay_i h c _ _ _ (Or.inl hi), ⟨?_, trivial⟩⟩
  obtain ⟨a1, a2, a3⟩ := lay_v h c (Int32.ofNat k) (Int32.ofNat x) (Int32.ofNat y)
  exact ⟨a1, a2, by rw [if_neg hk]; exact a3⟩
theorem b210 {h : gd_H} (hb : BS h) {d : Nat} (hd : 2 ≤ d) (k x y : Int32) : run gd_P0 d 210 [.ref 1231, .int k, .int x, .int y] h = some (.inl none, h) := by
  obtain ⟨d, rfl⟩ : ∃ e, d = e + 1 := ⟨d - 1, by omega⟩
  rw [r210, s210_0, if_pos hb.1.t, b185 hb (by omega), gc_v, s210_4, if_pos rfl]
theorem m210 {h : gd_H} {X : gdX} (hb : MB h X) {d : Nat} (hd : 2 ≤ d) (p o : Nat) {c : Nat} (hc : gI h 1231 32 = Int32.ofNat (3 * c)) (hc2 : c < 50) (k x y : Int32) : run gd_P0 d 210 [.ref 1231, .int k, .int x, .int y] (mm h p o) = some (.inl none, mm (lyc h c k x y) p o) := by
  obtain ⟨d, rfl⟩ : ∃ e, d = e + 1 := ⟨d - 1, by omega⟩
  have hm := hb.1
  have hc1 : gI (mm h p o) 1231 32 = Int32.ofNat (3 * c) := (mm_j h p o (by omega) (by omega)).trans hc
  have q1 : Int32.ofNat (3 * c) + 1 = Int32.ofNat (3 * c + 1) := j_s _
  have q2 : Int32.ofNat (3 * c) + 2 = Int32.ofNat (3 * c + 2) := j_add (3 * c) 2
  have q3 : Int32.ofNat (3 * c) + 3 = Int32.ofNat (3 * (c + 1)) := j_add (3 * c) 3
  have x1 : ¬ (Int32.ofNat (3 * c) < 0 ∨ 150 ≤ Int32.toNatClampNeg (Int32.ofNat (3 * c))) := by rw [j_ix (by omega) (by omega)]; exact trivial
  have x2 : ¬ (Int32.ofNat (3 * c + 1) < 0 ∨ 150 ≤ Int32.toNatClampNeg (Int32.ofNat (3 * c + 1))) := by rw [j_ix (by omega) (by omega)]; exact trivial
  have x3 : ¬ (Int32.ofNat (3 * c + 2) < 0 ∨ 150 ≤ Int32.toNatClampNeg (Int32.ofNat (3 * c + 2))) := by rw [j_ix (by omega) (by omega)]; exact trivial
  rw [r210, s210_0, gT_mm, if_pos hm.t, m185 hb (by omega), gc_v, s210_4, if_neg ne_1]
  simp only [gT_mm, gR_mm, gL_mm, hm.t, m_r30 hm, m_t30 hm, m_l30 hm, ↓reduceIte, hc1, q1, q2, q3, up1_nc _ _ _ (show (1231 : Nat) ≠ 1248 by omega), x1, x2, x3, not_false_eq_true, and_self, j_cl (show 3 * c < 2147483648 by omega), j_cl (show 3 * c + 1 < 2147483648 by omega), j_cl (show 3 * c + 2 < 2147483648 by omega)]
  rw [j_cl (by omega)] at x1 x2 x3
  rw [if_pos ⟨trivial, x1⟩, if_pos ⟨trivial, x2⟩, if_pos ⟨trivial, x3⟩]
  refine congrArg (fun z => some (Sum.inl none, z)) ?_
  unfold lyc
  have e1 := mm_wa (h := h) (a := 1248) (k := 3 * c) (Or.inl (by omega)) p o k
  have e2 := mm_wa (h := wI h (up1 (gI h) 1248 (3 * c) k)) (a := 1248) (k := 3 * c + 1) (Or.inl (by omega)) p o x
  have e3 := mm_wa (h := wI h (up1 (up1 (gI h) 1248 (3 * c) k) 1248 (3 * c + 1) x)) (a := 1248) (k := 3 * c + 2) (Or.inl (by omega)) p o y
  have e4 := mm_wa (h := wI h (up1 (up1 (up1 (gI h) 1248 (3 * c) k) 1248 (3 * c + 1) x) 1248 (3 * c + 2) y)) (a := 1231) (k := 32) (Or.inr (by omega)) p o (Int32.ofNat (3 * (c + 1)))
  rw [← e1] at e2
  have e2 : wI (mm h p o) (up1 (up1 (gI (mm h p o)) 1248 (3 * c) k) 1248 (3 * c + 1) x) = _ := e2
  rw [← show _ = mm (wI h (up1 (up1 (gI h) 1248 (3 * c) k) 1248 (3 * c + 1) x)) p o from e2] at e3
  have e3 : wI (mm h p o) (up1 (up1 (up1 (gI (mm h p o)) 1248 (3 * c) k) 1248 (3 * c + 1) x) 1248 (3 * c + 2) y) = _ := e3
  rw [← show _ = mm (wI h (up1 (up1 (up1 (gI h) 1248 (3 * c) k) 1248 (3 * c + 1) x) 1248 (3 * c + 2) y)) p o from e3] at e4
  exact e4
/-- an again is closed -/
theorem agW {h h2 : gd_H} {c tm : Nat} {b : List (Nat × Nat × Nat)} (w : VWc (c + 1) b (lyc h c 7 (Int32.ofNat tm) 0) h2) : VWc c ((7, tm, b.length) :: b) h (wI h2 (up1 (gI h2) 1248 (3 * c + 2) (Int32.ofNat (3 * (c + 1 + b.length))))) := by
  obtain ⟨I2, rfl, y1, y2, y3, y4, y5⟩ := w
  obtain ⟨a1, a2, a3⟩ := lay_v h c 7 (Int32.ofNat tm) 0
  refine ⟨up1 I2 1248 (3 * c + 2) (Int32.ofNat (3 * (c + 1 + b.length))), rfl, fun q h1 h2 => ?_, fun j hj => ?_, ?_, fun i hi => ?_, ⟨?_, ?_, ?_⟩, ?_⟩
  · rw [up1_nc _ _ _ h1, y1 q h1 h2, lay_b _ _ _ _ _ h1 h2]
  · rw [up1_nc _ _ _ (by omega), y2 j hj, lay_j _ _ _ _ _ hj]
  · rw [up1_nc _ _ _ (by omega), y3, List.length_cons]
    exact congrArg Int32.ofNat (by omega)
  · rw [up1_nj _ _ (by omega), y4 i (by omega), lay_i _ _ _ _ _ (Or.inl hi)]
  · rw [up1_nj _ _ (by omega), y4 _ (by omega)]; exact a1
  · rw [up1_nj _ _ (by omega), y4 _ (by omega)]; exact a2
  · rw [up1_eq]; rfl
  · exact CM_cg b (c + 1) (fun i h1 h2 => up1_nj _ _ (by omega)) y5

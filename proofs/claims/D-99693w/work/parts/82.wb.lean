/-! ===== WORK: the class reads a row of steps ===== -/
set_option maxRecDepth 100000
theorem YG_4 {E : gdE} {p p' : Nat} {a : gdY} (y : YG E p p' a) : 4 ≤ p' - p := by
  obtain ⟨h1, h2⟩ := y
  have : 1 ≤ a.1.length := by
    cases hq : p' - p with
    | zero => rw [hq, wd] at h1; exact h1.elim
    | succ n =>
      rw [hq, wd] at h1
      rcases h1 with ⟨k, a1, b1, -, e, -⟩ | ⟨t, c, V1, -, -, e, -⟩
      · rw [e]; exact Nat.le_refl _
      · rw [e]; show 1 ≤ c.length + 1; omega
  omega
theorem fo_gu {Vi Vj : Nat → gdT → gdT} {m : Nat} (h : ∀ i, i < m → Vj i = Vi i) (s : gdT) : fo (fun i s => gu (Vj i) s) m s = fo (fun i s => gu (Vi i) s) m s :=
  fo_congr (fun i hi x => by rw [h i hi]) s
/-- cells kept below a mark -/
theorem Ke.mut {c c' : Nat} {h0 h h' : gd_H} (k : Ke c h0 h) (hs : gS h ≤ gS h' ∧ gS h' ≤ gS h + c' ∧ gU h' ≤ gU h + 16 * c') (hk : ∀ b, b < gS h0 → gT h' b = gT h b ∧ gL h' b = gL h b ∧ gI h' b = gI h b ∧ gR h' b = gR h b) {c2 : Nat} (hc : c + c' ≤ c2) : Ke c2 h0 h' := by
  obtain ⟨⟨k1, k2, k3⟩, k4⟩ := k
  refine ⟨⟨by omega, by omega, by omega⟩, fun b hb => ?_⟩
  obtain ⟨x1, x2, x3, x4⟩ := hk b hb
  obtain ⟨y1, y2, y3, y4⟩ := k4 b hb
  exact ⟨x1.trans y1, x2.trans y2, x3.trans y3, x4.trans y4⟩
theorem RWs.ke {h h' : gd_H} {E : gdE} {lo hi c n m t : Nat} {V : gdT → gdT} (w : RWs h lo hi E n t V) (k : Ke c h h') (hh : hi ≤ gS h) (hm : n ≤ m) : RWs h' lo hi E m t V :=
  RWs_cg (Nat.le_refl _) (Nat.le_refl _) (fun b _ h2 => k.2 b (by omega)) n m t V hm w
/-- the steps laid into a row so far -/
def ZI (h0 h : gd_H) (E : gdE) (r tm p0 p : Nat) (V : gdT → gdT) (c : Nat) : Prop := ∃ (m arr : Nat) (Vi : Nat → gdT → gdT), (gT h r = 18 ∧ gI h r 0 = Int32.ofNat tm ∧ gI h r 2 = Int32.ofNat m ∧ gR h r 1 = arr ∧ gT h arr = 37) ∧ (m ≤ gL h arr ∧ 4 ≤ gL h arr ∧ gL h arr ≤ 1000) ∧ (gS h0 ≤ r ∧ r < gS h ∧ gS h0 ≤ arr ∧ arr < gS h ∧ r ≠ arr) ∧ 4 * m ≤ p - p0 ∧ (∀ i, i < m → ∃ l u, (gS h0 ≤ l ∧ u ≤ gS h ∧ (r < l ∨ u ≤ r) ∧ (arr < l ∨ u ≤ arr)) ∧ RWs h l u E (p - p0) (gR h arr i) (Vi i)) ∧ (V = fun s => fo (fun i s => gu (Vi i) s) m s) ∧ Ke (c + 5 * (p - p0)) h0 h
theorem ZI.ke {h0 h : gd_H} {E : gdE} {r tm p0 p c : Nat} {V : gdT → gdT} (z : ZI h0 h E r tm p0 p V c) : Ke (c + 5 * (p - p0)) h0 h := by
  obtain ⟨m, arr, Vi, -, -, -, -, -, -, k⟩ := z
  exact k
theorem ZI.ty {h0 h : gd_H} {E : gdE} {r tm p0 p c : Nat} {V : gdT → gdT} (z : ZI h0 h E r tm p0 p V c) : gT h r = 18 ∧ gS h0 ≤ r ∧ r < gS h := by
  obtain ⟨m, arr, Vi, a, -, b, -⟩ := z
  exact ⟨a.1, b.1, b.2.1⟩
/-- the row is a step -/
theorem ZI.rw {h0 h : gd_H} {E : gdE} {r tm p0 p c : Nat} {V : gdT → gdT} (z : ZI h0 h E r tm p0 p V c) (ht : tm ≤ 30) (hp : p ≤ p0 + 150) : RWs h (gS h0) (gS h) E (p - p0 + 1) r (pAg tm V) := by
  obtain ⟨m, arr, Vi, ⟨a1, a2, a3, a4, a5⟩, ⟨b1, -⟩, ⟨c1, c2, c3, c4, c5⟩, d, e, f, k⟩ := z
  refine ⟨⟨c1, c2⟩, Or.inr (Or.inr (Or.inr ⟨a1, tm, m, arr, Vi, ht, by omega, a2, a3, a4, ⟨c3, c4⟩, a5, b1, fun i hi => ?_, by rw [f]⟩))⟩
  obtain ⟨l, u, ⟨x1, x2, -, -⟩, w⟩ := e i hi
  exact RWs_cg x1 x2 (fun b _ _ => ⟨rfl, rfl, rfl, rfl⟩) _ _ _ _ (Nat.le_refl _) w
theorem zstep {h0 h h' : gd_H} {E : gdE} {ρ o r tm p0 p p' t c d : Nat} {V V2 : gdT → gdT} (z : ZI h0 h E r tm p0 p V c) (k : Ke (5 * (p' - p) - 5) h h') (w : RWs h' (gS h) (gS h') E (p' - p) t V2) (hp : p0 ≤ p) (h4 : 4 ≤ p' - p) (hp2 : p' ≤ p0 + 150) (hρ : ρ < gS h0) (h4r : 4 ≤ gS h0) (hd : 1 ≤ d) :
    ∃ h'', run gd_P0 d 130 [.ref r, .ref t] (rz h' ρ p' o) = some (.inl none, rz h'' ρ p' o) ∧ ZI h0 h'' E r tm p0 p' (fun s => gu V2 (V s)) c := by
  obtain ⟨m, arr, Vi, ⟨a1, a2, a3, a4, a5⟩, ⟨b1, b2, b3⟩, ⟨c1, c2, c3, c4, c5⟩, e1, e2, e3, k0⟩ := z
  have k0s := k0.1.1
  have ks := k.1.1
  have ty := w.ty
  obtain ⟨f1, f2, f3, f4⟩ := k.2 r c2
  obtain ⟨g1, g2, g3, g4⟩ := k.2 arr c4
  obtain ⟨G, arr', eG, ⟨s1, s2, s3⟩, kp, i1, i2, i3, i4, i5, ⟨i6, i7, i8⟩, i9, j1, j2⟩ := sp130 (G := rz h' ρ p' o) (r := r) (arr := arr) (cap := gL h arr) (m := m) (s := t) (f1.trans a1) (by rw [gR_rz, f4]; exact a4) (g1.trans a5) g2 (by rw [rz_b _ _ _ _ (by omega), f3]; exact a3) b1 b3 b2 (by omega) (by rw [gS_rz]; omega) (by rw [gS_rz]; omega) c5 (fun i hi => by
    obtain ⟨l, u, ⟨x1, x2, -, -⟩, w⟩ := e2 i hi
    have := w.ty
    obtain ⟨y1, -, -, -⟩ := k.2 (gR h arr i) (by omega)
    rw [gR_rz, g4, gT_rz, gS_rz, y1]
    exact ⟨this.1, by omega⟩) ty.1 ty.2.2 hd
  rw [gS_rz] at s1 s2 kp i4
  rw [gU_rz] at s3
  have gρ : gI G ρ = gI (rz h' ρ p' o) ρ := (kp ρ (by omega)).2.2.1 (by omega)
  obtain ⟨h'', eq, u1, u2, u3, u4, u5, u6, u7⟩ := unrz gρ
  refine ⟨h'', by rw [eG, eq], ?_⟩
  rw [← u3] at i5 kp
  rw [← u4] at i6 i7 i8 kp
  rw [← u5] at i3 j1 j2 kp
  rw [← u6] at s1 s2 i9
  rw [← u7] at s3
  have r1 : gI h'' r = gI G r := u2 r (by omega)
  rw [← r1] at i1 i2
  -- cells but the row and its array stand
  have kb : ∀ b, b < gS h' → gT h'' b = gT h' b ∧ gL h'' b = gL h' b ∧ (b ≠ r → gI h'' b = gI h' b) ∧ (b ≠ r → b ≠ arr → gR h'' b = gR h' b) := by
    intro b hb
    obtain ⟨y1, y2, y3, y4⟩ := kp b hb
    refine ⟨y1, y2, fun z => ?_, y4⟩
    by_cases q : b = ρ
    · rw [q]; exact u1
    · rw [u2 b q, y3 z, rz_b _ _ _ _ q]
  refine ⟨m + 1, arr', fun i => if i = m then V2 else Vi i, ⟨(kb r (by omega)).1.trans (f1.trans a1), ?_, i2, i3, i5⟩, ⟨i6, i7, i8⟩, ⟨c1, by omega, by omega, i9, by omega⟩, by omega, fun i hi => ?_, ?_, ?_⟩
  · rw [i1 0 (by decide), rz_b _ _ _ _ (by omega), f3]; exact a2
  · by_cases q : i = m
    · subst q
      dsimp only
      rw [if_pos rfl, j2]
      refine ⟨gS h, gS h', ⟨by omega, by omega, Or.inl c2, by omega⟩, ?_⟩
      refine RWs_cg (Nat.le_refl _) (Nat.le_refl _) (fun b h1 h2 => ?_) _ _ _ _ (by omega) w
      obtain ⟨y1, y2, y3, y4⟩ := kb b h2
      exact ⟨y1, y2, y3 (by omega), y4 (by omega) (by omega)⟩
    · obtain ⟨l, u, ⟨x1, x2, x3, x4⟩, w⟩ := e2 i (by omega)
      dsimp only
      rw [if_neg q, j1 i (by omega), gR_rz, g4]
      refine ⟨l, u, ⟨x1, by omega, x3, by omega⟩, ?_⟩
      refine RWs_cg (Nat.le_refl _) (Nat.le_refl _) (fun b h1 h2 => ?_) _ _ _ _ (by omega) w
      obtain ⟨y1, y2, y3, y4⟩ := kb b (by omega)
      obtain ⟨z1, z2, z3, z4⟩ := k.2 b (by omega)
      exact ⟨y1.trans z1, y2.trans z2, (y3 (by omega)).trans z3, (y4 (by omega) (by omega)).trans z4⟩
  · funext s
    have q := fo_gu (Vi := Vi) (Vj := fun i => if i = m then V2 else Vi i) (m := m) (fun i hi => if_neg (by omega)) s
    rw [fo_s, q]
    dsimp only
    rw [if_pos rfl, e3]
  · refine (k0.trans k (Nat.le_refl _)).mut (c' := 5) ⟨s1, by omega, by omega⟩ (fun b hb => ?_) (by omega)
    obtain ⟨y1, y2, y3, y4⟩ := kb b (by omega)
    exact ⟨y1, y2, y3 (by omega), y4 (by omega) (by omega)⟩

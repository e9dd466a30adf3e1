/-! ===== WORK: the model runs the whole ===== -/
set_option maxRecDepth 100000
/-- codes from c on are run -/
def G2 (h : gd_H) (E : gdE) (d H c : Nat) (cs : List (Nat × Nat × Nat)) (V : gdT → gdT) : Prop := ∀ (I : Nat → Nat → Int32) (s : gdT), WM I E s → CM (I 1249) c cs → ∃ I', go gd_P0 d 212 2 [.ref 1231, .null, .int (Int32.ofNat (3 * H)), .int (Int32.ofNat (3 * c)), .null, .null] [] (wI h I) = go gd_P0 d 212 2 [.ref 1231, .null, .int (Int32.ofNat (3 * H)), .int (Int32.ofNat (3 * (c + cs.length))), .null, .null] [] (wI h I') ∧ WM I' E (V s) ∧ WG I I'
theorem CM.wg {I I' : Nat → Nat → Int32} {c : Nat} {cs : List (Nat × Nat × Nat)} (h : CM (I 1249) c cs) (g : WG I I') : CM (I' 1249) c cs := by rw [g.1 1249 (by omega) (by omega) (by omega) (by omega) (by omega)]; exact h
/-- the rounds of an again -/
theorem lp51 {h : gd_H} (hm : MS h) {E : gdE} {d H c t : Nat} {b : List (Nat × Nat × Nat)} {V : gdT → gdT} (hst : ∀ s, 200 ≤ s.2.1 → V s = s) (hr : G2 h E d (c + 1 + b.length) (c + 1) b V) (hH : H ≤ 50) (hc : c + 1 + b.length ≤ H) (ht : t ≤ 30) (s0 : gdT) (w1 : Value) : ∀ (q i : Nat) (I : Nat → Nat → Int32), i + q = t → WM I E (itr V i s0) → CM (I 1249) c ((7, t, b.length) :: b) → ∃ I' w5, go gd_P0 (d + 1) 212 51 [.ref 1231, w1, .int (Int32.ofNat (3 * H)), .int (Int32.ofNat (3 * c)), .int (Int32.ofNat (3 * (c + 1 + b.length))), .int (Int32.ofNat i)] [] (wI h I) = go gd_P0 (d + 1) 212 89 [.ref 1231, .null, .int (Int32.ofNat (3 * H)), .int (Int32.ofNat (3 * c)), .int (Int32.ofNat (3 * (c + 1 + b.length))), .int w5] [] (wI h I') ∧ WM I' E (itr V t s0) ∧ WG I I'
  | 0, i, I, hi, hw, cm => by
    have it : i = t := by omega
    subst it
    have t8 : gT (wI h I) 1231 = 8 := hm.t
    have q1 : Int32.ofNat (3 * c) + 1 = Int32.ofNat (3 * c + 1) := j_s _
    have x1 := c1249 hm I (i := 3 * c + 1) (by omega)
    have a2 : I 1249 (3 * c + 1) = Int32.ofNat i := cm.1.2.1
    refine ⟨I, Int32.ofNat i, ?_, hw, WG.refl I⟩
    rw [s212_51, if_pos t8, gR_wI, m_r31 hm, q1, if_pos ⟨m_t31 hm, x1⟩, j_cl (by omega), gI_wI, a2, if_pos (Int32.le_refl _)]
  | q + 1, i, I, hi, hw, cm => by
    have t8 : gT (wI h I) 1231 = 8 := hm.t
    have q1 : Int32.ofNat (3 * c) + 1 = Int32.ofNat (3 * c + 1) := j_s _
    have q3 : Int32.ofNat (3 * c) + 3 = Int32.ofNat (3 * (c + 1)) := j_add (3 * c) 3
    have x1 := c1249 hm I (i := 3 * c + 1) (by omega)
    have a2 : I 1249 (3 * c + 1) = Int32.ofNat t := cm.1.2.1
    rw [s212_51, if_pos t8, gR_wI, m_r31 hm, q1, if_pos ⟨m_t31 hm, x1⟩, j_cl (by omega), gI_wI, a2, if_neg (by rw [j_le (by omega) (by omega)]; omega), if_pos t8]
    by_cases z : 200 ≤ (itr V i s0).2.1
    · have := itr_stop (V := V) (s := s0) (j := i) (hst _ z) (q + 1)
      rw [hi] at this
      rw [this]
      exact ⟨I, _, by rw [if_pos (by rw [hw.q]; exact z)], hw, WG.refl I⟩
    · obtain ⟨I1, e1, w1', g1⟩ := hr I _ hw cm.2
      obtain ⟨I2, w5, e2, w2, g2⟩ := lp51 hm hst hr hH hc ht s0 .null q (i + 1) I1 (by omega) w1' (cm.wg g1)
      have e0 : run gd_P0 (d + 1) 212 [.ref 1231, .int (Int32.ofNat (3 * (c + 1))), .int (Int32.ofNat (3 * (c + 1 + b.length)))] (wI h I) = some (.inl none, wI h I1) := by
        rw [r212, s212_0, g212, e1]
        exact g212e hm w1' (by omega) (by omega) (Or.inl (Nat.le_refl _)) d _ _ _
      refine ⟨I2, w5, ?_, w2, g1.trans g2⟩
      rw [if_neg (by rw [hw.q]; exact z), if_pos t8, q3, e0, gc_n, s212_83, j_s]
      exact e2
theorem g2s {h : gd_H} (hm : MS h) {E : gdE} : ∀ (n : Nat), (∀ (cs : List (Nat × Nat × Nat)) (V : gdT → gdT), wd E n false cs V → ∀ d H c, 13 + n ≤ d → H ≤ 50 → c + cs.length ≤ H → G2 h E d H c cs V) ∧ ∀ (cs : List (Nat × Nat × Nat)) (V : gdT → gdT), wd E n true cs V → ∀ d H c, 13 + n ≤ d → H ≤ 50 → c + cs.length ≤ H → G2 h E d H c cs (fun s => gu V s)
  | 0 => ⟨fun cs V w => by rw [wd] at w; exact w.elim, fun cs V w => by rw [wd] at w; exact w.elim⟩
  | n + 1 => by
    obtain ⟨ihF, ihT⟩ := g2s hm (E := E) n
    refine ⟨fun cs V w d H c hd hH hc I s hw cm => ?_, fun cs V w d H c hd hH hc I s hw cm => ?_⟩
    · rw [wd] at w
      rcases w with ⟨rfl, rfl⟩ | ⟨c1, V1, c2, V2, w1, w2, rfl, rfl⟩
      · exact ⟨I, rfl, hw, WG.refl I⟩
      · rw [List.length_append] at hc
        obtain ⟨m1, m2⟩ := (CM_app c1 c2 c).mp cm
        obtain ⟨I1, e1, x1, y1⟩ := ihF c1 V1 w1 d H c (by omega) hH (by omega) I s hw m1
        obtain ⟨I2, e2, x2, y2⟩ := ihT c2 V2 w2 d H (c + c1.length) (by omega) hH (by omega) I1 _ x1 (m2.wg y1)
        rw [Nat.add_assoc, ← List.length_append] at e2
        exact ⟨I2, e1.trans e2, x2, y1.trans y2⟩
    · by_cases z : 200 ≤ s.2.1
      · have e : gu V s = s := by unfold gu; rw [if_neg (by omega)]
        refine ⟨I, ?_, by show WM I E (gu V s); rw [e]; exact hw, WG.refl I⟩
        rw [g212e hm hw hH (by omega) (Or.inr z) d _ _ _, g212e hm hw hH (by omega) (Or.inr z) d _ _ _]
      have e : gu V s = V s := by unfold gu; rw [if_pos (by omega)]
      show ∃ I', _ ∧ WM I' E (gu V s) ∧ _
      rw [e]
      rw [wd] at w
      rcases w with ⟨k, x, y, hp, rfl, rfl⟩ | ⟨t, b, V1, ht, w1, rfl, rfl⟩
      · have hc' : c + 1 ≤ H := hc
        exact t212 hm hw (by omega) hp hH hc' cm (by omega)
      · rw [List.length_cons] at hc ⊢
        obtain ⟨d, rfl⟩ : ∃ e, d = e + 1 := ⟨d - 1, by omega⟩
        obtain ⟨wb, gb⟩ := hw.b (by omega)
        have i35 : I 1231 35 + 1 = Int32.ofNat (s.2.1 + 1) := by rw [hw.1.1]; exact j_s _
        have q : (Int32.ofNat (3 * H) ≤ Int32.ofNat (3 * c)) = (3 * H ≤ 3 * c) := j_le (by omega) (by omega)
        have q2 : Int32.ofNat (3 * c) + 2 = Int32.ofNat (3 * c + 2) := j_add (3 * c) 2
        have t8 : ∀ I : Nat → Nat → Int32, gT (wI h I) 1231 = 8 := fun _ => hm.t
        have r31 : ∀ I : Nat → Nat → Int32, gR (wI h I) 1231 31 = 1249 := fun _ => m_r31 hm
        have t31 : ∀ I : Nat → Nat → Int32, gT (wI h I) 1249 = 31 := fun _ => m_t31 hm
        have e49 : ∀ i, up1 I 1231 35 (Int32.ofNat (s.2.1 + 1)) 1249 i = I 1249 i := fun i => congrFun (up1_nc _ _ _ (by omega)) i
        have a1 : I 1249 (3 * c) = Int32.ofNat 7 := cm.1.1
        have a3 : I 1249 (3 * c + 2) = Int32.ofNat (3 * (c + 1 + b.length)) := cm.1.2.2
        have x0 := c1249 hm I (i := 3 * c) (by omega)
        have x3 := c1249 hm I (i := 3 * c + 2) (by omega)
        obtain ⟨I2, w5, e2, x2, y2⟩ := lp51 hm (d := d) (H := H) (c := c) (t := t) (b := b) (V := V1) (fun s hs => wd_stop n b V1 w1 s hs) (ihF b V1 w1 d (c + 1 + b.length) (c + 1) (by omega) (by omega) (Nat.le_refl _)) hH (by omega) ht (s.1, s.2.1 + 1, s.2.2.1, s.2.2.2) .null t 0 (up1 I 1231 35 (Int32.ofNat (s.2.1 + 1))) (by omega) wb (cm.wg gb)
        have e2 : go gd_P0 (d + 1) 212 51 [.ref 1231, .null, .int (Int32.ofNat (3 * H)), .int (Int32.ofNat (3 * c)), .int (Int32.ofNat (3 * (c + 1 + b.length))), .int 0] [] (wI h (up1 I 1231 35 (Int32.ofNat (s.2.1 + 1)))) = _ := e2
        refine ⟨I2, ?_, x2, gb.trans y2⟩
        rw [s212_2, if_neg (by rw [q]; omega), if_pos (t8 _), gI_wI, if_neg (by rw [hw.q]; omega), if_pos (t8 _), if_pos (t8 _), if_pos (t8 _), r31, if_pos ⟨t31 _, x0⟩, i35, j_cl (by omega), e49, a1, if_pos (show Int32.ofNat 7 = 7 from rfl), if_pos (t8 _), q2, if_pos ⟨t31 _, x3⟩, j_cl (by omega), e49, a3, wI_wI, e2, s212_89]
        rw [show c + 1 + b.length = c + (b.length + 1) by omega]
        exact g212 ..

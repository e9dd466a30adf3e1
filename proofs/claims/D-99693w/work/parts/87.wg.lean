/-! ===== WORK: the class runs rows of steps ===== -/
set_option maxRecDepth 100000
theorem fo_stop {Vi : Nat → gdT → gdT} {s : gdT} {j : Nat} (h : 200 ≤ (fo (fun i s => gu (Vi i) s) j s).2.1) : ∀ q, fo (fun i s => gu (Vi i) s) (j + q) s = fo (fun i s => gu (Vi i) s) j s
  | 0 => rfl
  | q + 1 => by
    rw [show j + (q + 1) = (j + q) + 1 from rfl, fo_s, fo_stop h q]
    unfold gu
    rw [if_neg (by unfold gu at h; omega)]
theorem itr_stop {V : gdT → gdT} {s : gdT} {j : Nat} (h : V (itr V j s) = itr V j s) : ∀ q, itr V (j + q) s = itr V j s
  | 0 => rfl
  | q + 1 => by
    show V (itr V (j + q) s) = _
    rw [itr_stop h q, h]
/-- a step that a run does -/
def AC (h : gd_H) (ν a σ : Nat) (E : gdE) (lo hi t : Nat) (V : gdT → gdT) (d : Nat) : Prop := ∀ (I : Nat → Nat → Int32) (s : gdT), (∀ b, lo ≤ b → b < hi → I b = gI h b) → WT (wI h I) ν a σ E s → s.2.1 < 200 → ∃ I', run gd_P0 d 142 [.ref ν, .ref t] (wI h I) = some (.inl none, wI h I') ∧ WT (wI h I') ν a σ E (V s) ∧ WF I I' ν a
theorem WT.a {h : gd_H} {ν a σ : Nat} {E : gdE} {s : gdT} (w : WT h ν a σ E s) : a + 16 ≤ 1212 ∧ 1223 < σ := ⟨w.2.2.1.1.1.2.1, w.2.2.1.1.1.2.2⟩
theorem WF.cg {h : gd_H} {I I' : Nat → Nat → Int32} {ν a lo hi : Nat} (f : WF I I' ν a) (ha : a + 16 ≤ 1212) (hν : ν < lo ∨ hi ≤ ν) (hlo : 1264 < lo) (hI : ∀ b, lo ≤ b → b < hi → I b = gI h b) : ∀ b, lo ≤ b → b < hi → I' b = gI h b := fun b h1 h2 => by
  rw [f b (by omega) (by omega)]
  exact hI b h1 h2
theorem lpI {h : gd_H} {ν a σ lo hi t m arr d : Nat} {E : gdE} {Vi : Nat → gdT → gdT} (hν : ν < lo ∨ hi ≤ ν) (hlo : 1264 < lo) (ht : lo ≤ t ∧ t < hi) (t1 : gT h t = 18) (i2 : gI h t 2 = Int32.ofNat m) (r1 : gR h t 1 = arr) (t2 : gT h arr = 37) (l2 : m ≤ gL h arr) (hm : m ≤ 40) (hd : 1 ≤ d) (hac : ∀ i, i < m → AC h ν a σ E lo hi (gR h arr i) (Vi i) d) (s0 : gdT) (v2 : Int32) : ∀ (q j : Nat) (I : Nat → Nat → Int32), j + q = m → (∀ b, lo ≤ b → b < hi → I b = gI h b) → WT (wI h I) ν a σ E (fo (fun i s => gu (Vi i) s) j s0) →
    ∃ I' w3, go gd_P0 d 131 19 [.ref t, .ref ν, .int v2, .int (Int32.ofNat j)] [] (wI h I) = go gd_P0 d 131 50 [.ref t, .ref ν, .int v2, .int w3] [] (wI h I') ∧ WT (wI h I') ν a σ E (fo (fun i s => gu (Vi i) s) m s0) ∧ WF I I' ν a
  | 0, j, I, hj, hI, hw => by
    have e2 : gI (wI h I) t 2 = Int32.ofNat m := by rw [gI_wI, hI t ht.1 ht.2]; exact i2
    have jm : j = m := by omega
    subst jm
    exact ⟨I, _, by rw [s131_19, gT_wI, if_pos t1, e2, if_pos (Int32.le_refl _)], hw, fun _ _ _ => rfl⟩
  | q + 1, j, I, hj, hI, hw => by
    have e2 : gI (wI h I) t 2 = Int32.ofNat m := by rw [gI_wI, hI t ht.1 ht.2]; exact i2
    have tν : gT h ν = 22 := hw.1.1
    have e0 : go gd_P0 d 131 19 [.ref t, .ref ν, .int v2, .int (Int32.ofNat j)] [] (wI h I) = go gd_P0 d 131 31 [.ref t, .ref ν, .int v2, .int (Int32.ofNat j)] [.int (if (fo (fun i s => gu (Vi i) s) j s0).2.1 < 200 then 1 else 0)] (wI h I) := by
      rw [s131_19, gT_wI, if_pos t1, e2, if_neg (by rw [j_le (by omega) (by omega)]; omega), if_pos tν, sp141 hw hd, gc_v]
    rw [e0, s131_31]
    by_cases c : (fo (fun i s => gu (Vi i) s) j s0).2.1 < 200
    · obtain ⟨I', e', w', f'⟩ := hac j (by omega) I _ hI hw c
      obtain ⟨I2, w3, e3, w4, f4⟩ := lpI hν hlo ht t1 i2 r1 t2 l2 hm hd hac s0 v2 q (j + 1) I' (by omega) (f'.cg hw.a.1 hν hlo hI) (by
        rw [fo_s]
        unfold gu
        rw [if_pos (by unfold gu at c; exact c)]
        unfold gu at w'
        exact w')
      refine ⟨I2, w3, ?_, w4, f'.trans f4⟩
      rw [if_pos c, if_neg (by decide), gT_wI, if_pos t1, gR_wI, gL_wI, r1, if_pos ⟨t2, by rw [j_ix (by omega) (by omega)]; exact trivial⟩, if_pos tν, j_cl (by omega), e', gc_n, s131_44, j_s]
      exact e3
    · rw [if_neg c, if_pos rfl]
      have := fo_stop (Vi := Vi) (s := s0) (j := j) (by omega) (q + 1)
      rw [hj] at this
      rw [this]
      exact ⟨I, _, rfl, hw, fun _ _ _ => rfl⟩
theorem lpO {h : gd_H} {ν a σ lo hi t m tm arr d : Nat} {E : gdE} {Vi : Nat → gdT → gdT} (hν : ν < lo ∨ hi ≤ ν) (hlo : 1264 < lo) (ht : lo ≤ t ∧ t < hi) (t1 : gT h t = 18) (i0 : gI h t 0 = Int32.ofNat tm) (htm : tm ≤ 30) (i2 : gI h t 2 = Int32.ofNat m) (r1 : gR h t 1 = arr) (t2 : gT h arr = 37) (l2 : m ≤ gL h arr) (hm : m ≤ 40) (hd : 1 ≤ d) (hac : ∀ i, i < m → AC h ν a σ E lo hi (gR h arr i) (Vi i) d) (s0 : gdT) : ∀ (q j : Nat) (I : Nat → Nat → Int32) (w : Int32), j + q = tm → (∀ b, lo ≤ b → b < hi → I b = gI h b) → WT (wI h I) ν a σ E (itr (fun s => fo (fun i s => gu (Vi i) s) m s) j s0) →
    ∃ I', go gd_P0 d 131 2 [.ref t, .ref ν, .int (Int32.ofNat j), .null] [] (wI h I) = some (.inl none, wI h I') ∧ WT (wI h I') ν a σ E (itr (fun s => fo (fun i s => gu (Vi i) s) m s) tm s0) ∧ WF I I' ν a
  | 0, j, I, w, hj, hI, hw => by
    have e0 : gI (wI h I) t 0 = Int32.ofNat tm := by rw [gI_wI, hI t ht.1 ht.2]; exact i0
    have jm : j = tm := by omega
    subst jm
    exact ⟨I, by rw [s131_2, gT_wI, if_pos t1, e0, if_pos (Int32.le_refl _), s131_56], hw, fun _ _ _ => rfl⟩
  | q + 1, j, I, w, hj, hI, hw => by
    have e0 : gI (wI h I) t 0 = Int32.ofNat tm := by rw [gI_wI, hI t ht.1 ht.2]; exact i0
    have tν : gT h ν = 22 := hw.1.1
    have e1 : go gd_P0 d 131 2 [.ref t, .ref ν, .int (Int32.ofNat j), .null] [] (wI h I) = go gd_P0 d 131 14 [.ref t, .ref ν, .int (Int32.ofNat j), .null] [.int (if (itr (fun s => fo (fun i s => gu (Vi i) s) m s) j s0).2.1 < 200 then 1 else 0)] (wI h I) := by
      rw [s131_2, gT_wI, if_pos t1, e0, if_neg (by rw [j_le (by omega) (by omega)]; omega), if_pos tν, sp141 hw hd, gc_v]
    rw [e1, s131_14]
    by_cases c : (itr (fun s => fo (fun i s => gu (Vi i) s) m s) j s0).2.1 < 200
    · obtain ⟨I', w3, e', w', f'⟩ := lpI hν hlo ht t1 i2 r1 t2 l2 hm hd hac (itr (fun s => fo (fun i s => gu (Vi i) s) m s) j s0) (Int32.ofNat j) m 0 I (by omega) hI hw
      obtain ⟨I2, e3, w4, f4⟩ := lpO hν hlo ht t1 i0 htm i2 r1 t2 l2 hm hd hac s0 q (j + 1) I' 0 (by omega) (f'.cg hw.a.1 hν hlo hI) w'
      refine ⟨I2, ?_, w4, f'.trans f4⟩
      have e' : go gd_P0 d 131 19 [.ref t, .ref ν, .int (Int32.ofNat j), .int 0] [] (wI h I) = _ := e'
      rw [if_pos c, if_neg (by decide), e', s131_50, j_s]
      exact e3
    · rw [if_neg c, if_pos rfl, s131_56]
      have := itr_stop (V := fun s => fo (fun i s => gu (Vi i) s) m s) (s := s0) (j := j) (by
        have := fo_stop (Vi := Vi) (s := itr (fun s => fo (fun i s => gu (Vi i) s) m s) j s0) (j := 0) (by show 200 ≤ (itr _ j s0).2.1; omega) m
        rw [Nat.zero_add] at this
        exact this) (q + 1)
      rw [hj] at this
      rw [this]
      exact ⟨I, rfl, hw, fun _ _ _ => rfl⟩

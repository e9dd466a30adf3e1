/-! ===== DECADES ===== -/
set_option maxRecDepth 100000
def lcg (s : Int32) : Int32 := s * 1103515245 + 12345
/-- a lot of n -/
def dN (s : Int32) (n : Nat) : Nat := ((s >>> ((16 : Int32) &&& 31)) &&& 32767).toNatClampNeg % n
theorem and_n (x : Int32) : ∃ v, v ≤ 32767 ∧ x &&& 32767 = Int32.ofNat v := by
  refine ⟨(x &&& 32767).toBitVec.toNat, ?_, (Int32.ofNat_bitVecToNat _).symm⟩
  rw [Int32.toBitVec_and, BitVec.toNat_and]
  exact Nat.and_le_right
theorem dN_lt {s : Int32} {n : Nat} (hn : 0 < n) : dN s n < n := Nat.mod_lt _ hn
theorem dN_eq (s : Int32) {n : Nat} (hn : 0 < n) (h : n < 1000) : ((s >>> ((16 : Int32) &&& 31)) &&& 32767) - ((s >>> ((16 : Int32) &&& 31)) &&& 32767) / Int32.ofNat n * Int32.ofNat n = Int32.ofNat (dN s n) := by
  obtain ⟨v, hv, e⟩ := and_n (s >>> ((16 : Int32) &&& 31))
  unfold dN
  have h2 : v / n * n ≤ v := Nat.div_mul_le_self v n
  rw [e, j_div (by omega) (by omega), j_mul, j_sub h2, j_cl (by omega)]
  congr 1
  rw [Nat.mul_comm]
  exact (Nat.mod_eq_sub_mul_div ..).symm
def pDn (E : gdE) (r : gdR) (s : Int32) : gdR := if pNoB E r (dN s (eN E)) = true then pNo E r (dN s (eN E)) else r
def pDc (E : gdE) (r : gdR) (s c : Int32) : Int32 := if pNoB E r (dN s (eN E)) = true then c + 1 else c
def pDo (q s : Int32) (r : gdR) : gdR := if q ≤ Int32.ofNat (dN s 16) then r else rw1 r 48 (Int32.ofNat (dN (lcg s) 10))
def pDs (q s : Int32) : Int32 := if q ≤ Int32.ofNat (dN s 16) then s else lcg s
/-- what is done in a month: the row, the lots, the cuts -/
def pD (E : gdE) (q : Int32) (x : gdR × Int32 × Int32) : gdR × Int32 × Int32 := if eN E = 0 then (pMo E (-1) x.1, x.2.1, x.2.2) else
  (pMo E (-1) (pDo q (lcg (lcg (lcg (lcg x.2.1)))) (rw1 (pDn E x.1 (lcg x.2.1)) (7 + dN (lcg (lcg x.2.1)) (eN E)) (Int32.ofNat (dN (lcg (lcg (lcg x.2.1))) 10)))), pDs q (lcg (lcg (lcg (lcg x.2.1)))), pDc E x.1 (lcg x.2.1) x.2.2)
def pDec (E : gdE) (q : Int32) (r : gdR) (seed : Int32) (k : Nat) : gdR × Int32 × Int32 := fo (fun _ x => pD E q x) k (r, seed, 0)
theorem RI.pDn {E : gdE} {m : Nat} {r : gdR} (h : RI E m r) (s : Int32) (hN : 0 < eN E) : RI E m (pDn E r s) := by
  unfold _root_.Jvm.Pilot.CGrowingDoorLaw_law_r1186_a7d77d.pDn
  split
  · exact h.no (by have := dN_lt (s := s) hN; have := h.1.2; omega)
  · exact h
theorem RI.pDo {E : gdE} {m : Nat} {r : gdR} (h : RI E m r) (q s : Int32) : RI E m (pDo q s r) := by
  unfold _root_.Jvm.Pilot.CGrowingDoorLaw_law_r1186_a7d77d.pDo
  split
  · exact h
  · exact h.rw (Or.inr (Or.inr ⟨rfl, _, by have := dN_lt (s := lcg s) (n := 10) (by omega); omega, rfl⟩))
theorem RI.pDec {E : gdE} (hE : EI E) (q : Int32) {m : Nat} {r : gdR} (hr : RI E m r) (seed : Int32) : ∀ k, m + k < 1000000 → RI E (m + k) (pDec E q r seed k).1
  | 0, _ => hr
  | k + 1, hk => by
    have ih := RI.pDec hE q hr seed k (by omega)
    show RI E (m + (k + 1)) (pD E q (_root_.Jvm.Pilot.CGrowingDoorLaw_law_r1186_a7d77d.pDec E q r seed k)).1
    unfold pD
    split
    · exact RI.mo hE (Or.inl rfl) (show m + k < 1000000 by omega) ih
    · exact RI.mo hE (Or.inl rfl) (show m + k < 1000000 by omega) (((ih.pDn _ (by omega)).rw (Or.inl (by have := dN_lt (s := lcg (lcg (_root_.Jvm.Pilot.CGrowingDoorLaw_law_r1186_a7d77d.pDec E q r seed k).2.1)) (n := eN E) (by omega); have := ih.1.2; omega))).pDo _ _)
/-! the class's side -/
theorem TQ.u96 {h0 h : gd_H} {D : gdD} {al : Int32} {r : gdR} (t : TQ h0 h D al r) {j : Nat} (hj : 20 < j) (v : Int32) : TQ h0 (wI h (up1 (gI h) 96 j v)) D al r := by
  obtain ⟨q, hi, σ, hs, hc, hl⟩ := t
  have q2 : XQ h (wI h (up1 (gI h) 96 j v)) := XQ.i96 (fun b _ h2 => up1_nc _ _ _ h2) (fun k hk => up1_nj _ _ (by omega))
  exact ⟨q.trans q2, hi.q q2, σ, hs.wI _, hc.fr hs.1.2.2 (fun b hb => up1_nc _ _ _ (by omega)), hl.wI fun b hb => up1_nc _ _ _ (by omega)⟩
def TL (h0 h : gd_H) (D : gdD) (r : gdR) (s c : Int32) : Prop := TQ h0 h D (-1) r ∧ gI h 96 21 = s ∧ gI h 96 22 = c
theorem sp94 {h0 h : gd_H} {D : gdD} {r : gdR} {s c : Int32} (t : TL h0 h D r s c) {n : Nat} (hn : 0 < n) (hn2 : n < 1000) {d : Nat} (hd : 1 ≤ d) : ∃ h', run gd_P0 d 94 [.ref 96, .int (Int32.ofNat n)] h = some (.inl (some (.int (Int32.ofNat (dN (lcg s) n)))), h') ∧ TL h0 h' D r (lcg s) c := by
  obtain ⟨d, rfl⟩ : ∃ e, d = e + 1 := ⟨d - 1, by omega⟩
  obtain ⟨t, e1, e2⟩ := t
  have hg := t.2.1.1
  refine ⟨wI h (up1 (gI h) 96 21 (lcg s)), ?_, t.u96 (by omega) _, up1_eq (gI h) 96 21 (lcg s), by rw [gI_wI, up1_nj _ _ (by omega)]; exact e2⟩
  rw [r94, s94_0]
  have n0 : (n = 0) = False := eq_false (by omega)
  have n1 : (Int32.ofNat n = 0) = False := by rw [show (0 : Int32) = Int32.ofNat 0 from rfl, j_eq (by omega) (by omega)]; exact n0
  rw [← dN_eq (lcg s) hn hn2]
  simp only [hg.1, n1, e1, up1_eq, ↓reduceIte]
  rfl
theorem TL.i {h0 h : gd_H} {D : gdD} {r r' : gdR} {s c : Int32} (t : TL h0 h D r s c) {I' : Nat → Nat → Int32} (hx : ∀ σ, SS h 1196 σ → XC (gI h) 1196 σ (dE D) (-1) r → XC I' 1196 σ (dE D) (-1) r') (hf : ∀ b, (b < 1196 ∨ 1204 < b) → I' b = gI h b) : TL h0 (wI h I') D r' s c := ⟨t.1.i hx hf, by rw [gI_wI, hf 96 (by omega)]; exact t.2.1, by rw [gI_wI, hf 96 (by omega)]; exact t.2.2⟩
theorem XC.σ {h : gd_H} {a σ σ2 : Nat} (h1 : SS h a σ) (h2 : SS h a σ2) : σ = σ2 := h1.2.1.2.2.2.symm.trans h2.2.1.2.2.2
theorem x93n {h0 h : gd_H} {D : gdD} {r : gdR} {s c : Int32} (t : TL h0 h D r s c) {m : Nat} (hr : RI (dE D) m r) (hN0 : 0 < eN (dE D)) {q mo i : Int32} (hi : ¬ mo ≤ i) {d : Nat} (hd : 190 ≤ d + 1) : ∃ h', go gd_P0 d 93 18 [.ref 96, .null, .int q, .int mo, .int i, .null] [] h = go gd_P0 d 93 65 [.ref 96, .null, .int q, .int mo, .int i, .null] [] h' ∧ TL h0 h' D (pDn (dE D) r (lcg s)) (lcg s) (pDc (dE D) r (lcg s) c) := by
  have hN7 := hr.1.2
  obtain ⟨h1, e1, t1⟩ := sp94 t (n := eN (dE D)) hN0 (by omega) (d := d) (by omega)
  obtain ⟨⟨qh1, hi1, σ1, hs1, hx1, hl1⟩, -⟩ := id t1
  have hp := dN_lt (s := lcg s) hN0
  obtain ⟨I', e2, e3, e4⟩ := sp160 (d := d) (by omega) hs1 hx1 hr (dN (lcg s) (eN (dE D))) hp
  have t2 : TL h0 (wI h1 I') D (pDn (dE D) r (lcg s)) (lcg s) c := t1.i (fun σ2 hs2 _ => by rw [← XC.σ hs1 hs2]; exact e3) (fun b hb => e4 b (by omega))
  obtain ⟨⟨qh, hi0, σ0, hs0, hx0, hl0⟩, -⟩ := id t
  have hg := hi0.1
  have hg1 := hi1.1
  obtain ⟨σ', ⟨s15, -, -⟩, sc', -, s6', -⟩ := hi0.2.1
  have z1 := (s6' (dW D) (Nat.le_refl _)).2.2.1.2
  have z2 := sc'.2.1
  have n0 : ¬ Int32.ofNat (eN (dE D)) ≤ 0 := by rw [show (0 : Int32) = Int32.ofNat 0 from rfl, j_le (by omega) (by omega)]; omega
  rw [s93_18]
  simp (disch := first | omega | assumption) only [hg.1, x_r4 hg, x_t4 hg, hi, s15, z1, z2, n0, e1, s93_49, gT_wI, gR_wI, gL_wI, gS_wI, gU_wI, gI_wI, gJ_wI, gI_wJ, gJ_wJ, gR_wJ, gT_wJ, gL_wJ, gS_wJ, gU_wJ, gI_wR, gJ_wR, gR_wR, gT_wR, gL_wR, gS_wR, gU_wR, wI_wI, wJ_wJ, wR_wR, j_s, j_add, j_addL, j_addR, j_mulL, j_mulR, j_cl, j_clL, j_neg, j_negL, j_nn, j_lt, j_le, j_eq, j_ltL, j_ltR, j_leL, j_leR, j_eqL, j_eqR, j_m1, j_m1L, j_m1R, j_eqLL, j_ltLL, j_leLL, n_le0, n_le1, n_lt0, n_lt1, gc_v, gc_n, ↓reduceIte, and_true, true_and, and_self, or_self, or_false, false_or, not_false_eq_true, not_true_eq_false, false_and, and_false, Nat.reduceAdd, Nat.reduceEqDiff, Nat.reduceLeDiff, Nat.reduceLT]
  simp (disch := first | omega | assumption) only [hs1.2.1.1, e2, gc_v, ↓reduceIte]
  by_cases b : pNoB (dE D) r (dN (lcg s) (eN (dE D))) = true
  · refine ⟨wI (wI h1 I') (up1 I' 96 22 (c + 1)), ?_, t2.1.u96 (by omega) _, ?_, ?_⟩
    · have e5 : I' 96 22 = c := t2.2.2
      simp (disch := first | omega | assumption) only [b, s93_52, i10, hg1.1, e5, gT_wI, gR_wI, gL_wI, gS_wI, gU_wI, gI_wI, gJ_wI, gI_wJ, gJ_wJ, gR_wJ, gT_wJ, gL_wJ, gS_wJ, gU_wJ, gI_wR, gJ_wR, gR_wR, gT_wR, gL_wR, gS_wR, gU_wR, wI_wI, wJ_wJ, wR_wR, j_s, j_add, j_addL, j_addR, j_mulL, j_mulR, j_cl, j_clL, j_neg, j_negL, j_nn, j_lt, j_le, j_eq, j_ltL, j_ltR, j_leL, j_leR, j_eqL, j_eqR, j_m1, j_m1L, j_m1R, j_eqLL, j_ltLL, j_leLL, n_le0, n_le1, n_lt0, n_lt1, gc_v, gc_n, ↓reduceIte, and_true, true_and, and_self, or_self, or_false, false_or, not_false_eq_true, not_true_eq_false, false_and, and_false, Nat.reduceAdd, Nat.reduceEqDiff, Nat.reduceLeDiff, Nat.reduceLT]
    · rw [gI_wI, up1_nj _ _ (by omega)]; exact t2.2.1
    · rw [gI_wI, up1_eq]; unfold pDc; rw [if_pos b]
  · refine ⟨wI h1 I', ?_, t2.1, t2.2.1, ?_⟩
    · simp (disch := first | omega | assumption) only [b, s93_52, Bool.false_eq_true, gT_wI, gR_wI, gL_wI, gS_wI, gU_wI, gI_wI, gJ_wI, gI_wJ, gJ_wJ, gR_wJ, gT_wJ, gL_wJ, gS_wJ, gU_wJ, gI_wR, gJ_wR, gR_wR, gT_wR, gL_wR, gS_wR, gU_wR, wI_wI, wJ_wJ, wR_wR, j_s, j_add, j_addL, j_addR, j_mulL, j_mulR, j_cl, j_clL, j_neg, j_negL, j_nn, j_lt, j_le, j_eq, j_ltL, j_ltR, j_leL, j_leR, j_eqL, j_eqR, j_m1, j_m1L, j_m1R, j_eqLL, j_ltLL, j_leLL, n_le0, n_le1, n_lt0, n_lt1, gc_v, gc_n, ↓reduceIte, and_true, true_and, and_self, or_self, or_false, false_or, not_false_eq_true, not_true_eq_false, false_and, and_false, Nat.reduceAdd, Nat.reduceEqDiff, Nat.reduceLeDiff, Nat.reduceLT]
    · unfold pDc; rw [if_neg b]; exact t2.2.2
theorem x93e {h0 h : gd_H} {D : gdD} {r : gdR} {s c : Int32} (t : TL h0 h D r s c) {m : Nat} (hr : RI (dE D) m r) (hN0 : 0 < eN (dE D)) {q mo i : Int32} {d : Nat} (hd : 190 ≤ d + 1) : ∃ h', go gd_P0 d 93 65 [.ref 96, .null, .int q, .int mo, .int i, .null] [] h = go gd_P0 d 93 100 [.ref 96, .null, .int q, .int mo, .int i, .null] [.int (Int32.ofNat (dN (lcg (lcg (lcg s))) 16))] h' ∧ TL h0 h' D (rw1 r (7 + dN (lcg s) (eN (dE D))) (Int32.ofNat (dN (lcg (lcg s)) 10))) (lcg (lcg (lcg s))) c := by
  have hN7 := hr.1.2
  obtain ⟨h1, e1, t1⟩ := sp94 t (n := eN (dE D)) hN0 (by omega) (d := d) (by omega)
  obtain ⟨h2, e2, t2⟩ := sp94 t1 (n := 10) (by omega) (by omega) (d := d) (by omega)
  obtain ⟨⟨qh2, hi2, σ2, hs2, hx2, hl2⟩, -⟩ := id t2
  have hp := dN_lt (s := lcg s) hN0
  obtain ⟨I', e3, e4, e5⟩ := sp164 (d := d) (by omega) hs2 hx2 (dN (lcg s) (eN (dE D))) (by omega) (Int32.ofNat (dN (lcg (lcg s)) 10))
  have t3 : TL h0 (wI h2 I') D (rw1 r (7 + dN (lcg s) (eN (dE D))) (Int32.ofNat (dN (lcg (lcg s)) 10))) (lcg (lcg s)) c := t2.i (fun σ3 hs3 _ => by rw [← XC.σ hs2 hs3]; exact e4) (fun b hb => e5 b (by omega))
  obtain ⟨h4, e6, t4⟩ := sp94 t3 (n := 16) (by omega) (by omega) (d := d) (by omega)
  refine ⟨h4, ?_, t4⟩
  obtain ⟨⟨qh, hi0, -⟩, -⟩ := id t
  obtain ⟨⟨-, hi1, -⟩, -⟩ := id t1
  obtain ⟨⟨-, hi3, -⟩, -⟩ := id t3
  have hg := hi0.1
  have hg1 := hi1.1
  have hg2 := hi2.1
  have hg3 := hi3.1
  obtain ⟨σ', ⟨s15, -, -⟩, sc', -, s6', -⟩ := hi0.2.1
  have z1 := (s6' (dW D) (Nat.le_refl _)).2.2.1.2
  have z2 := sc'.2.1
  have e2' : run gd_P0 d 94 [.ref 96, .int 10] h1 = _ := e2
  have e6' : run gd_P0 d 94 [.ref 96, .int 16] (wI h2 I') = _ := e6
  rw [s93_65]
  simp (disch := first | omega | assumption) only [hg.1, x_r4 hg, x_t4 hg, s15, z1, z2, e1, gT_wI, gR_wI, gL_wI, gS_wI, gU_wI, gI_wI, gJ_wI, gI_wJ, gJ_wJ, gR_wJ, gT_wJ, gL_wJ, gS_wJ, gU_wJ, gI_wR, gJ_wR, gR_wR, gT_wR, gL_wR, gS_wR, gU_wR, wI_wI, wJ_wJ, wR_wR, j_s, j_add, j_addL, j_addR, j_mulL, j_mulR, j_cl, j_clL, j_neg, j_negL, j_nn, j_lt, j_le, j_eq, j_ltL, j_ltR, j_leL, j_leR, j_eqL, j_eqR, j_m1, j_m1L, j_m1R, j_eqLL, j_ltLL, j_leLL, n_le0, n_le1, n_lt0, n_lt1, gc_v, gc_n, ↓reduceIte, and_true, true_and, and_self, or_self, or_false, false_or, not_false_eq_true, not_true_eq_false, false_and, and_false, Nat.reduceAdd, Nat.reduceEqDiff, Nat.reduceLeDiff, Nat.reduceLT]
  rw [s93_76]
  simp (disch := first | omega | assumption) only [hg1.1, x_r4 hg1, x_t4 hg1, e2', gT_wI, gR_wI, gL_wI, gS_wI, gU_wI, gI_wI, gJ_wI, gI_wJ, gJ_wJ, gR_wJ, gT_wJ, gL_wJ, gS_wJ, gU_wJ, gI_wR, gJ_wR, gR_wR, gT_wR, gL_wR, gS_wR, gU_wR, wI_wI, wJ_wJ, wR_wR, j_s, j_add, j_addL, j_addR, j_mulL, j_mulR, j_cl, j_clL, j_neg, j_negL, j_nn, j_lt, j_le, j_eq, j_ltL, j_ltR, j_leL, j_leR, j_eqL, j_eqR, j_m1, j_m1L, j_m1R, j_eqLL, j_ltLL, j_leLL, n_le0, n_le1, n_lt0, n_lt1, gc_v, gc_n, ↓reduceIte, and_true, true_and, and_self, or_self, or_false, false_or, not_false_eq_true, not_true_eq_false, false_and, and_false, Nat.reduceAdd, Nat.reduceEqDiff, Nat.reduceLeDiff, Nat.reduceLT]
  rw [s93_90]
  simp only [hs2.2.1.1, e3, gc_v, ↓reduceIte]
  rw [s93_93]
  simp only [hg3.1, e6', gc_v, ↓reduceIte]
theorem x93o {h0 h : gd_H} {D : gdD} {r : gdR} {s c : Int32} (t : TL h0 h D r s c) {q mo i : Int32} {d : Nat} (hd : 190 ≤ d + 1) : ∃ h', go gd_P0 d 93 100 [.ref 96, .null, .int q, .int mo, .int i, .null] [.int (Int32.ofNat (dN s 16))] h = go gd_P0 d 93 118 [.ref 96, .null, .int q, .int mo, .int i, .null] [] h' ∧ TL h0 h' D (pDo q s r) (pDs q s) c := by
  obtain ⟨⟨qh, hi0, -⟩, -⟩ := id t
  have hg := hi0.1
  unfold pDo pDs
  by_cases b : q ≤ Int32.ofNat (dN s 16)
  · refine ⟨h, ?_, ?_⟩
    · rw [s93_100, if_pos b]
    · rw [if_pos b, if_pos b]; exact t
  · obtain ⟨h1, e1, t1⟩ := sp94 t (n := 10) (by omega) (by omega) (d := d) (by omega)
    obtain ⟨⟨qh2, hi2, σ2, hs2, hx2, hl2⟩, -⟩ := id t1
    obtain ⟨I', e3, e4, e5⟩ := sp165 (d := d) (by omega) hs2 hx2 (Int32.ofNat (dN (lcg s) 10))
    refine ⟨wI h1 I', ?_, ?_⟩
    · have e1' : run gd_P0 d 94 [.ref 96, .int 10] h = _ := e1
      rw [s93_100, if_neg b]
      simp only [hg.1, x_r4 hg, x_t4 hg, e1', gc_v, ↓reduceIte]
      rw [s93_114]
      simp only [hs2.2.1.1, e3, gc_v, ↓reduceIte]
      rw [s93_117]
    · rw [if_neg b, if_neg b]
      exact t1.i (fun σ3 hs3 _ => by rw [← XC.σ hs2 hs3]; exact e4) (fun b hb => e5 b (by omega))
theorem TL.mo {h0 h : gd_H} {D : gdD} {r : gdR} {s c : Int32} (t : TL h0 h D r s c) (hE : EI (dE D)) {m : Nat} (hr : RI (dE D) m r) (hm : m < 1000000) {d : Nat} (hd : 182 ≤ d) : ∃ h', run gd_P0 d 152 [.ref 1196] h = some (.inl none, h') ∧ TL h0 h' D (pMo (dE D) (-1) r) s c := by
  obtain ⟨⟨q, hi, σ, hs, hx, hl⟩, t2, t3⟩ := id t
  obtain ⟨I', e1, e2, e3⟩ := sp152 (d := d) (by omega) hs hx hr hm hE hl
  exact ⟨_, e1, t.i (fun σ2 hs2 _ => by rw [← XC.σ hs hs2]; exact e2) fun b hb => e3 b (by omega)⟩
theorem x93m {h0 h : gd_H} {D : gdD} {r : gdR} {s c : Int32} (t : TL h0 h D r s c) (hE : EI (dE D)) {m : Nat} (hr : RI (dE D) m r) (hm : m < 1000000) {q mo i : Int32} {d : Nat} (hd : 190 ≤ d + 1) : ∃ h', go gd_P0 d 93 118 [.ref 96, .null, .int q, .int mo, .int i, .null] [] h = go gd_P0 d 93 18 [.ref 96, .null, .int q, .int mo, .int (i + 1), .null] [] h' ∧ TL h0 h' D (pMo (dE D) (-1) r) s c := by
  obtain ⟨⟨qh, hi0, -⟩, -⟩ := id t
  have hg := hi0.1
  obtain ⟨h', e1, t1⟩ := t.mo hE hr hm (d := d) (by omega)
  refine ⟨h', ?_, t1⟩
  rw [s93_118]
  simp only [hg.1, x_r4 hg, x_t4 hg, e1, gc_n, ↓reduceIte]
  rw [s93_125]
/-- the class's decade -/
theorem sp93 {h : gd_H} {D : gdD} (hi : XI h D) (hD : DI D) (seed q : Int32) {mo : Nat} (hmo : mo ≤ 96) {d : Nat} (hd : 190 ≤ d) : ∃ h', run gd_P0 d 93 [.ref 96, .int seed, .int q, .int (Int32.ofNat mo)] h = some (.inl (some (.ref 1196)), h') ∧ TL h h' D (pDec (dE D) q (dNow D) seed mo).1 (pDec (dE D) q (dNow D) seed mo).2.1 (pDec (dE D) q (dNow D) seed mo).2.2 := by
  obtain ⟨d, rfl⟩ : ∃ e, d = e + 1 := ⟨d - 1, by omega⟩
  have hg := hi.1
  obtain ⟨m, hm, hr⟩ := hD.2.1 (dW D) (Nat.le_refl _)
  have hE := hD.1
  have q0 : XQ h (wI h (up1 (up1 (gI h) 96 21 seed) 96 22 0)) := XQ.i96 (fun b _ h2 => by rw [up1_nc _ _ _ h2, up1_nc _ _ _ h2]) (fun k hk => by rw [up1_nj _ _ (by omega), up1_nj _ _ (by omega)])
  obtain ⟨h1, e1, t1, t9⟩ := sp68b (hi.q q0) hD (d := d) (by omega)
  have t96 := t9 96 (by omega)
  have tl : TL h h1 D (dNow D) seed 0 := by
    obtain ⟨qx, rest⟩ := id t1
    exact ⟨⟨q0.trans qx, rest⟩, by rw [t96, gI_wI, up1_nj _ _ (by decide), up1_eq], by rw [t96, gI_wI, up1_eq]⟩
  have L := lp_e (fun i s => go gd_P0 d 93 18 [.ref 96, .null, .int q, .int (Int32.ofNat mo), .int (Int32.ofNat i), .null] [] s) (fun i s => TL h s D (pDec (dE D) q (dNow D) seed i).1 (pDec (dE D) q (dNow D) seed i).2.1 (pDec (dE D) q (dNow D) seed i).2.2) mo h1 tl ?_
  · obtain ⟨h2, e2, t2⟩ := L
    refine ⟨h2, ?_, t2⟩
    have hg2 := t2.1.2.1.1
    rw [r93, s93_0]
    simp (disch := first | omega | assumption) only [hg.1, e1, gc_v, s93_14, ↓reduceIte]
    refine Eq.trans e2 ?_
    try dsimp only
    rw [s93_18]
    simp (disch := first | omega | assumption) only [hg2.1, x_r4 hg2, x_t4 hg2, gT_wI, gR_wI, gL_wI, gS_wI, gU_wI, gI_wI, gJ_wI, gI_wJ, gJ_wJ, gR_wJ, gT_wJ, gL_wJ, gS_wJ, gU_wJ, gI_wR, gJ_wR, gR_wR, gT_wR, gL_wR, gS_wR, gU_wR, wI_wI, wJ_wJ, wR_wR, j_s, j_add, j_addL, j_addR, j_mulL, j_mulR, j_cl, j_clL, j_neg, j_negL, j_nn, j_lt, j_le, j_eq, j_ltL, j_ltR, j_leL, j_leR, j_eqL, j_eqR, j_m1, j_m1L, j_m1R, j_eqLL, j_ltLL, j_leLL, n_le0, n_le1, n_lt0, n_lt1, gc_v, gc_n, ↓reduceIte, and_true, true_and, and_self, or_self, or_false, false_or, not_false_eq_true, not_true_eq_false, false_and, and_false, Nat.reduceAdd, Nat.reduceEqDiff, Nat.reduceLeDiff, Nat.reduceLT]
  · intro i hi3 s t
    try dsimp only
    have hri := RI.pDec hE q hr seed i (by omega)
    have hmi : ¬ Int32.ofNat mo ≤ Int32.ofNat i := by rw [j_le (by omega) (by omega)]; omega
    show ∃ y, _ ∧ TL h y D (pD (dE D) q (pDec (dE D) q (dNow D) seed i)).1 (pD (dE D) q (pDec (dE D) q (dNow D) seed i)).2.1 (pD (dE D) q (pDec (dE D) q (dNow D) seed i)).2.2
    unfold pD
    by_cases c : eN (dE D) = 0
    · rw [if_pos c]
      obtain ⟨h3, e3, t3⟩ := x93m t hE hri (show m + i < 1000000 by omega) (q := q) (mo := Int32.ofNat mo) (i := Int32.ofNat i) hd
      refine ⟨h3, ?_, t3⟩
      rw [← j_s, ← e3]
      obtain ⟨⟨qh, hi0, -⟩, -⟩ := id t
      have hg0 := hi0.1
      obtain ⟨σ', ⟨s15, -, -⟩, sc', -, s6', -⟩ := hi0.2.1
      have z1 := (s6' (dW D) (Nat.le_refl _)).2.2.1.2
      have z2 := sc'.2.1
      rw [s93_18]
      simp (disch := first | omega | assumption) only [hg0.1, s15, z1, z2, c, hmi, gT_wI, gR_wI, gL_wI, gS_wI, gU_wI, gI_wI, gJ_wI, gI_wJ, gJ_wJ, gR_wJ, gT_wJ, gL_wJ, gS_wJ, gU_wJ, gI_wR, gJ_wR, gR_wR, gT_wR, gL_wR, gS_wR, gU_wR, wI_wI, wJ_wJ, wR_wR, j_s, j_add, j_addL, j_addR, j_mulL, j_mulR, j_cl, j_clL, j_neg, j_negL, j_nn, j_lt, j_le, j_eq, j_ltL, j_ltR, j_leL, j_leR, j_eqL, j_eqR, j_m1, j_m1L, j_m1R, j_eqLL, j_ltLL, j_leLL, n_le0, n_le1, n_lt0, n_lt1, gc_v, gc_n, ↓reduceIte, and_true, true_and, and_self, or_self, or_false, false_or, not_false_eq_true, not_true_eq_false, false_and, and_false, Nat.reduceAdd, Nat.reduceEqDiff, Nat.reduceLeDiff, Nat.reduceLT]
    · rw [if_neg c]
      obtain ⟨h3, e3, t3⟩ := x93n t hri (by omega) (q := q) hmi hd
      obtain ⟨h4, e4, t4⟩ := x93e t3 (hri.pDn _ (by omega)) (by omega) (q := q) (mo := Int32.ofNat mo) (i := Int32.ofNat i) hd
      obtain ⟨h5, e5, t5⟩ := x93o t4 (q := q) (mo := Int32.ofNat mo) (i := Int32.ofNat i) hd
      have hr5 := ((hri.pDn (lcg (pDec (dE D) q (dNow D) seed i).2.1) (by omega)).rw (j := 7 + dN (lcg (lcg (pDec (dE D) q (dNow D) seed i).2.1)) (eN (dE D))) (v := Int32.ofNat (dN (lcg (lcg (lcg (pDec (dE D) q (dNow D) seed i).2.1))) 10)) (Or.inl (by have := dN_lt (s := lcg (lcg (pDec (dE D) q (dNow D) seed i).2.1)) (n := eN (dE D)) (by omega); have := hri.1.2; omega))).pDo q (lcg (lcg (lcg (lcg (pDec (dE D) q (dNow D) seed i).2.1))))
      obtain ⟨h6, e6, t6⟩ := x93m t5 hE hr5 (show m + i < 1000000 by omega) (q := q) (mo := Int32.ofNat mo) (i := Int32.ofNat i) hd
      exact ⟨h6, by rw [← j_s, e3, e4, e5, e6], t6⟩
def vDec (D : gdD) (seed q : Int32) (mo w : Nat) : Int32 := if w = 0 then pb (pDec (dE D) q (dNow D) seed mo).1 (eB (dE D)) else if w = 1 then pHs (dE D) (pDec (dE D) q (dNow D) seed mo).1 else if w = 2 then pFam (dE D) (pDec (dE D) q (dNow D) seed mo).1 else (pDec (dE D) q (dNow D) seed mo).2.2
theorem sp92 {h : gd_H} (hg : XG h) {d : Nat} (hd : 2 ≤ d) {q mo : Int32} (h1 : ¬ q < 0) (h2 : ¬ 16 < q) (h3 : ¬ mo < 1) (h4 : ¬ 96 < mo) : run gd_P0 d 92 [.ref 96, .int q, .int mo] h = some (.inl none, h) := by
  obtain ⟨d, rfl⟩ : ∃ e, d = e + 1 := ⟨d - 1, by omega⟩
  rw [r92, s92_0]
  simp only [hg.1, sp53 hg (d := d) (by omega) h1 h2, sp53 hg (d := d) (by omega) h3 h4, gc_n, s92_8, s92_16, ↓reduceIte]
theorem sp92n {h : gd_H} (hg : XG h) (hz : 4 ≤ gS h) {d : Nat} (hd : 2 ≤ d) {q mo : Int32} (hv : q < 0 ∨ 16 < q ∨ mo < 1 ∨ 96 < mo) : run gd_P0 d 92 [.ref 96, .int q, .int mo] h = some (.inr (gS h), thr 25 h) := by
  obtain ⟨d, rfl⟩ : ∃ e, d = e + 1 := ⟨d - 1, by omega⟩
  rw [r92, s92_0]
  by_cases c : q < 0 ∨ 16 < q
  · simp only [hg.1, sp53n hg hz (d := d) (by omega) c, gc_x, gx_n (k := 92) (pc := 5) (t := 25) rfl, ↓reduceIte]
  · have c1 : ¬ q < 0 := fun z => c (Or.inl z)
    have c2 : ¬ 16 < q := fun z => c (Or.inr z)
    have c3 : mo < 1 ∨ 96 < mo := (hv.resolve_left c1).resolve_left c2
    simp only [hg.1, sp53 hg (d := d) (by omega) c1 c2, sp53n hg hz (d := d) (by omega) c3, gc_n, gc_x, s92_8, gx_n (k := 92) (pc := 13) (t := 25) rfl, ↓reduceIte]
theorem c04 {w : Nat} (h : w ≤ 3) : w = 0 ∨ w = 1 ∨ w = 2 ∨ w = 3 := by omega
theorem x91 {D : gdD} {seed q : Int32} {mo w : Nat} (h1 : ¬ q < 0) (h2 : ¬ 16 < q) (m1 : 1 ≤ mo) (m2 : mo ≤ 96) (hw : w ≤ 3) : XOk 91 [.int seed, .int q, .int (Int32.ofNat mo), .int (Int32.ofNat w)] D (.int (vDec D seed q mo w)) := by
  intro d h hd hi hD
  obtain ⟨a, σ, m, h145, hσ, hs, hx, hr, hm, hl, hE, ha, hT9⟩ := hi.nw hD
  have hg := hi.1
  have hz : 4 ≤ gS h := by have := hi.2.2.2.2.2.2.2.2.2.2; omega
  obtain ⟨d, rfl⟩ : ∃ e, d = e + 1 := ⟨d - 1, by omega⟩
  obtain ⟨⟨hA1, hA2, hS1⟩, ⟨tA, rA8, tLw, rA9⟩, ⟨rA0, tA1, lA1⟩, ⟨rA1, tA2, lA2⟩, ⟨rA2, tA3, lA3⟩, ⟨rA3, tA4, lA4⟩, ⟨rA4, tA5, lA5⟩, ⟨rA5, tA6, lA6⟩, ⟨rA6, tA7, lA7⟩, ⟨rA7, tA8⟩, tS, ⟨rS0, tS1, lS1⟩, ⟨rS1, tS2, lS2⟩, ⟨rS2, tS3, lS3⟩, ⟨rS3, tS4, lS4⟩, ⟨rS4, tS5, lS5⟩, ⟨rS5, tS6, lS6⟩⟩ := id hs
  obtain ⟨⟨hB, hN⟩, ⟨iB, iN⟩, iG, iK, iR, cH, cF, cO, cA, cC, cW, cT, cG, cM, cL⟩ := id hx
  have e53 := sp53 hg (d := d) (by omega) (v := Int32.ofNat w) (lo := 0) (hi := 3) (by rw [j_neg (by omega)]; exact fun z => z) (by rw [j_ltL (by omega) (by omega)]; omega)
  have e92 := sp92 hg (d := d) (by omega) (q := q) (mo := Int32.ofNat mo) h1 h2 (by rw [j_ltR (by omega) (by omega)]; omega) (by rw [j_ltL (by omega) (by omega)]; omega)
  obtain ⟨h2, e93, t2⟩ := sp93 hi hD seed q m2 (d := d) (by omega)
  obtain ⟨⟨qh, hi2, σ2, hs2, hx2, hl2⟩, t21, t22⟩ := id t2
  have hg2 := hi2.1
  have hr2 := RI.pDec hE q hr seed mo (by omega)
  refine ⟨h2, ?_, qh⟩
  rw [r91, s91_0]
  unfold vDec
  rcases c04 hw with rfl | rfl | rfl | rfl
  all_goals simp (disch := first | omega | assumption) only [hg.1, e92, e53, e93, s91_6, s91_14, s91_21, hs2.2.1.1, hg2.1, t22, sp158 (d := d) (by omega) hs2 hx2, sp168 (d := d) (by omega) hs2 hx2, sp167 (d := d) (by omega) hs2 hx2 hr2, s91_33, s91_47, s91_61, s91_68, gT_wI, gR_wI, gL_wI, gS_wI, gU_wI, gI_wI, gJ_wI, gI_wJ, gJ_wJ, gR_wJ, gT_wJ, gL_wJ, gS_wJ, gU_wJ, gI_wR, gJ_wR, gR_wR, gT_wR, gL_wR, gS_wR, gU_wR, wI_wI, wJ_wJ, wR_wR, j_s, j_add, j_addL, j_addR, j_mulL, j_mulR, j_cl, j_clL, j_neg, j_negL, j_nn, j_lt, j_le, j_eq, j_ltL, j_ltR, j_leL, j_leR, j_eqL, j_eqR, j_m1, j_m1L, j_m1R, j_eqLL, j_ltLL, j_leLL, n_le0, n_le1, n_lt0, n_lt1, gc_v, gc_n, ↓reduceIte, and_true, true_and, and_self, or_self, or_false, false_or, not_false_eq_true, not_true_eq_false, false_and, and_false, Nat.reduceAdd, Nat.reduceEqDiff, Nat.reduceLeDiff, Nat.reduceLT]
theorem x91a {D : gdD} {seed q mo v : Int32} (hv : q < 0 ∨ 16 < q ∨ mo < 1 ∨ 96 < mo) : XNo 91 [.int seed, .int q, .int mo, .int v] D 25 := by
  intro d h hd hi hD
  obtain ⟨a, σ, m, h145, hσ, hs, hx, hr, hm, hl, hE, ha, hT9⟩ := hi.nw hD
  have hg := hi.1
  have hz : 4 ≤ gS h := by have := hi.2.2.2.2.2.2.2.2.2.2; omega
  obtain ⟨d, rfl⟩ : ∃ e, d = e + 1 := ⟨d - 1, by omega⟩
  obtain ⟨⟨hA1, hA2, hS1⟩, ⟨tA, rA8, tLw, rA9⟩, ⟨rA0, tA1, lA1⟩, ⟨rA1, tA2, lA2⟩, ⟨rA2, tA3, lA3⟩, ⟨rA3, tA4, lA4⟩, ⟨rA4, tA5, lA5⟩, ⟨rA5, tA6, lA6⟩, ⟨rA6, tA7, lA7⟩, ⟨rA7, tA8⟩, tS, ⟨rS0, tS1, lS1⟩, ⟨rS1, tS2, lS2⟩, ⟨rS2, tS3, lS3⟩, ⟨rS3, tS4, lS4⟩, ⟨rS4, tS5, lS5⟩, ⟨rS5, tS6, lS6⟩⟩ := id hs
  obtain ⟨⟨hB, hN⟩, ⟨iB, iN⟩, iG, iK, iR, cH, cF, cO, cA, cC, cW, cT, cG, cM, cL⟩ := id hx
  rw [r91, s91_0]
  simp (disch := first | omega | assumption) only [hg.1, hσ, h145, tA, rA8, tLw, rA9, rA0, tA1, lA1, rA1, tA2, lA2, rA2, tA3, lA3, rA3, tA4, lA4, rA4, tA5, lA5, rA5, tA6, lA6, rA6, tA7, lA7, rA7, tA8, tS, rS0, tS1, lS1, rS1, tS2, lS2, rS2, tS3, lS3, rS3, tS4, lS4, rS4, tS5, lS5, rS5, tS6, lS6, iB, iN, iG, iK, iR, cH, cF, cO, cA, cC, cT, cG, cM, cL, sp92n hg hz (d := d) (by omega) hv, gc_x, gx_n (k := 91) (pc := 3) (t := 25) rfl, gT_wI, gR_wI, gL_wI, gS_wI, gU_wI, gI_wI, gJ_wI, gI_wJ, gJ_wJ, gR_wJ, gT_wJ, gL_wJ, gS_wJ, gU_wJ, gI_wR, gJ_wR, gR_wR, gT_wR, gL_wR, gS_wR, gU_wR, wI_wI, wJ_wJ, wR_wR, j_s, j_add, j_addL, j_addR, j_mulL, j_mulR, j_cl, j_clL, j_neg, j_negL, j_nn, j_lt, j_le, j_eq, j_ltL, j_ltR, j_leL, j_leR, j_eqL, j_eqR, j_m1, j_m1L, j_m1R, j_eqLL, j_ltLL, j_leLL, n_le0, n_le1, n_lt0, n_lt1, gc_v, gc_n, ↓reduceIte, and_true, true_and, and_self, or_self, or_false, false_or, not_false_eq_true, not_true_eq_false, false_and, and_false, Nat.reduceAdd, Nat.reduceEqDiff, Nat.reduceLeDiff, Nat.reduceLT]
theorem x91b {D : gdD} {seed q mo v : Int32} (h1 : ¬ q < 0) (h2 : ¬ 16 < q) (h3 : ¬ mo < 1) (h4 : ¬ 96 < mo) (hv : v < 0 ∨ 3 < v) : XNo 91 [.int seed, .int q, .int mo, .int v] D 25 := by
  intro d h hd hi hD
  obtain ⟨a, σ, m, h145, hσ, hs, hx, hr, hm, hl, hE, ha, hT9⟩ := hi.nw hD
  have hg := hi.1
  have hz : 4 ≤ gS h := by have := hi.2.2.2.2.2.2.2.2.2.2; omega
  obtain ⟨d, rfl⟩ : ∃ e, d = e + 1 := ⟨d - 1, by omega⟩
  obtain ⟨⟨hA1, hA2, hS1⟩, ⟨tA, rA8, tLw, rA9⟩, ⟨rA0, tA1, lA1⟩, ⟨rA1, tA2, lA2⟩, ⟨rA2, tA3, lA3⟩, ⟨rA3, tA4, lA4⟩, ⟨rA4, tA5, lA5⟩, ⟨rA5, tA6, lA6⟩, ⟨rA6, tA7, lA7⟩, ⟨rA7, tA8⟩, tS, ⟨rS0, tS1, lS1⟩, ⟨rS1, tS2, lS2⟩, ⟨rS2, tS3, lS3⟩, ⟨rS3, tS4, lS4⟩, ⟨rS4, tS5, lS5⟩, ⟨rS5, tS6, lS6⟩⟩ := id hs
  obtain ⟨⟨hB, hN⟩, ⟨iB, iN⟩, iG, iK, iR, cH, cF, cO, cA, cC, cW, cT, cG, cM, cL⟩ := id hx
  rw [r91, s91_0]
  simp (disch := first | omega | assumption) only [hg.1, hσ, h145, tA, rA8, tLw, rA9, rA0, tA1, lA1, rA1, tA2, lA2, rA2, tA3, lA3, rA3, tA4, lA4, rA4, tA5, lA5, rA5, tA6, lA6, rA6, tA7, lA7, rA7, tA8, tS, rS0, tS1, lS1, rS1, tS2, lS2, rS2, tS3, lS3, rS3, tS4, lS4, rS4, tS5, lS5, rS5, tS6, lS6, iB, iN, iG, iK, iR, cH, cF, cO, cA, cC, cT, cG, cM, cL, sp92 hg (d := d) (by omega) h1 h2 h3 h4, s91_6, sp53n hg hz (d := d) (by omega) hv, gc_x, gx_n (k := 91) (pc := 11) (t := 25) rfl, gT_wI, gR_wI, gL_wI, gS_wI, gU_wI, gI_wI, gJ_wI, gI_wJ, gJ_wJ, gR_wJ, gT_wJ, gL_wJ, gS_wJ, gU_wJ, gI_wR, gJ_wR, gR_wR, gT_wR, gL_wR, gS_wR, gU_wR, wI_wI, wJ_wJ, wR_wR, j_s, j_add, j_addL, j_addR, j_mulL, j_mulR, j_cl, j_clL, j_neg, j_negL, j_nn, j_lt, j_le, j_eq, j_ltL, j_ltR, j_leL, j_leR, j_eqL, j_eqR, j_m1, j_m1L, j_m1R, j_eqLL, j_ltLL, j_leLL, n_le0, n_le1, n_lt0, n_lt1, gc_v, gc_n, ↓reduceIte, and_true, true_and, and_self, or_self, or_false, false_or, not_false_eq_true, not_true_eq_false, false_and, and_false, Nat.reduceAdd, Nat.reduceEqDiff, Nat.reduceLeDiff, Nat.reduceLT]

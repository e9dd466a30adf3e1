/-! ===== MONTHS AHEAD: ahead, passes, sinks, feeds ===== -/
set_option maxRecDepth 100000
/-- k months on -/
def mN (E : gdE) (al : Int32) (k : Nat) (r : gdR) : gdR := fo (fun _ r => pMo E al r) k r
theorem RI.mN {E : gdE} {al : Int32} (hE : EI E) (ha : AI al) {m : Nat} {r : gdR} (hr : RI E m r) : ∀ k, m + k < 1000000 → RI E (m + k) (mN E al k r)
  | 0, _ => hr
  | k + 1, h => RI.mo hE ha (show m + k < 1000000 by omega) (RI.mN hE ha hr k (by omega))
theorem lp_fx {α β σ : Type} (G : Nat → σ → β) (K : α → σ → β) (p : Nat → σ → Prop) (q : σ → Prop) (c : Nat → Bool) (R : Nat → α) (e : α) : ∀ (n i : Nat) (s : σ), p i s → (∀ j s, i ≤ j → j < i + n → p j s → (c j = true → ∃ s', G j s = K (R j) s' ∧ q s') ∧ (c j = false → ∃ s', G j s = G (j + 1) s' ∧ p (j + 1) s')) → (∀ s, p (i + n) s → ∃ s', G (i + n) s = K e s' ∧ q s') → ∃ s', G i s = K (fi c R e n i) s' ∧ q s'
  | 0, i, s, hp, _, h => h s hp
  | n + 1, i, s, hp, hs, h => by
    cases hc : c i with
    | true =>
      obtain ⟨s', e1, e2⟩ := (hs i s (Nat.le_refl i) (by omega) hp).1 hc
      exact ⟨s', by rw [fi, hc, if_pos rfl]; exact e1, e2⟩
    | false =>
      obtain ⟨s1, e1, e2⟩ := (hs i s (Nat.le_refl i) (by omega) hp).2 hc
      obtain ⟨s', f1, f2⟩ := lp_fx G K p q c R e n (i + 1) s1 e2 (fun j s a b => hs j s (by omega) (by omega)) (by rw [show i + 1 + n = i + (n + 1) by omega]; exact h)
      refine ⟨s', ?_, f2⟩
      rw [fi, hc, if_neg (by decide)]
      exact e1.trans f1
/-- the class's trial holds a row -/
def TQ (h0 h : gd_H) (D : gdD) (al : Int32) (r : gdR) : Prop := XQ h0 h ∧ XI h D ∧ ∃ σ, SS h 1196 σ ∧ XC (gI h) 1196 σ (dE D) al r ∧ LWf h (eL (dE D))
theorem TQ.i {h0 h : gd_H} {D : gdD} {al al' : Int32} {r r' : gdR} (t : TQ h0 h D al r) {I' : Nat → Nat → Int32} (hx : ∀ σ, SS h 1196 σ → XC (gI h) 1196 σ (dE D) al r → XC I' 1196 σ (dE D) al' r') (hf : ∀ b, (b < 1196 ∨ 1204 < b) → I' b = gI h b) : TQ h0 (wI h I') D al' r' := by
  obtain ⟨q, hi, σ, hs, hc, hl⟩ := t
  have q2 : XQ h (wI h I') := XQ.i fun b hb => hf b (by unfold scr at hb; omega)
  exact ⟨q.trans q2, hi.q q2, σ, hs.wI I', hx σ hs hc, hl.wI fun b hb => hf b (by omega)⟩
/-- a trial of what is now -/
theorem sp68b {h : gd_H} {D : gdD} (hi : XI h D) (hD : DI D) {d : Nat} (hd : 3 ≤ d) : ∃ h', run gd_P0 d 68 [.ref 96] h = some (.inl (some (.ref 1196)), h') ∧ TQ h h' D (-1) (dNow D) ∧ ∀ b, (b < 1196 ∨ 1202 < b) → gI h' b = gI h b := by
  obtain ⟨d, rfl⟩ : ∃ e, d = e + 1 := ⟨d - 1, by omega⟩
  obtain ⟨a, σ, m, h145, hσ, hs, hx, hr, hm, hl, hE, ha, hT9⟩ := hi.nw hD
  have hg := hi.1
  have h1196 : SA h 1196 := hg.2.2.2.2.2.2.2.2.2
  have hsa := hs.sa
  have hsc := hs.sc
  obtain ⟨⟨hA1, hA2, hS1⟩, ⟨tA, rA8, tLw, rA9⟩, ⟨rA0, tA1, lA1⟩, ⟨rA1, tA2, lA2⟩, ⟨rA2, tA3, lA3⟩, ⟨rA3, tA4, lA4⟩, ⟨rA4, tA5, lA5⟩, ⟨rA5, tA6, lA6⟩, ⟨rA6, tA7, lA7⟩, ⟨rA7, tA8⟩, tS, ⟨rS0, tS1, lS1⟩, ⟨rS1, tS2, lS2⟩, ⟨rS2, tS3, lS3⟩, ⟨rS3, tS4, lS4⟩, ⟨rS4, tS5, lS5⟩, ⟨rS5, tS6, lS6⟩⟩ := id hs
  have e150 := sp150 (d := d) (by omega) h1196 hsa (by omega)
  rw [rA9] at e150
  refine ⟨wR (wI h (asI (gI h) 1196 a)) (up1 (gR h) 1196 9 σ), ?_, ?_⟩
  rotate_left
  · have q : XQ h (wR (wI h (asI (gI h) 1196 a)) (up1 (gR h) 1196 9 σ)) := ⟨asI (gI h) 1196 a, gJ h, _, rfl, fun b hb _ => asI_fr (by unfold scr at hb; omega), fun j _ => by rw [asI_fr (by omega)], fun _ _ => rfl, fun b j h1 _ => by
      by_cases z : b = 1196
      · subst z; exact up1_nj _ _ (fun z2 => h1 ⟨rfl, z2⟩)
      · exact congrFun (up1_nc _ _ _ z) j⟩
    have hi2 := hi.q q
    obtain ⟨-, -, -, -, -, -, -, -, -, lw, -⟩ := id hi2
    exact ⟨⟨q, hi2, σ, SS.mk ((h1196).u9 1196 σ) (hsc.u9 (a := 1196) σ (by omega)) (by rw [gR_wR, up1_eq]), asI_XC hx hS1 (by omega) (by omega), lw.lf⟩, fun b hb => (show asI (gI h) 1196 a b = gI h b from asI_fr (by omega))⟩
  · rw [r68, s68_0]
    simp (disch := first | omega | assumption) only [hg.1, x_r2 hg, x_t2 hg, x_r4 hg, x_t4 hg, h145, e150, s68_11, s68_14, gT_wI, gR_wI, gL_wI, gS_wI, gU_wI, gI_wI, gJ_wI, gI_wJ, gJ_wJ, gR_wJ, gT_wJ, gL_wJ, gS_wJ, gU_wJ, gI_wR, gJ_wR, gR_wR, gT_wR, gL_wR, gS_wR, gU_wR, wI_wI, wJ_wJ, wR_wR, j_s, j_add, j_addL, j_addR, j_mulL, j_mulR, j_cl, j_clL, j_neg, j_negL, j_nn, j_lt, j_le, j_eq, j_ltL, j_ltR, j_leL, j_leR, j_eqL, j_eqR, j_m1, j_m1L, j_m1R, j_eqLL, j_ltLL, j_leLL, n_le0, n_le1, n_lt0, n_lt1, gc_v, gc_n, ↓reduceIte, and_true, true_and, and_self, or_self, or_false, false_or, not_false_eq_true, not_true_eq_false, false_and, and_false, Nat.reduceAdd, Nat.reduceEqDiff, Nat.reduceLeDiff, Nat.reduceLT]
theorem sp68 {h : gd_H} {D : gdD} (hi : XI h D) (hD : DI D) {d : Nat} (hd : 3 ≤ d) : ∃ h', run gd_P0 d 68 [.ref 96] h = some (.inl (some (.ref 1196)), h') ∧ TQ h h' D (-1) (dNow D) := by
  obtain ⟨h', e1, e2, -⟩ := sp68b hi hD hd
  exact ⟨h', e1, e2⟩
/-- a month on trial -/
theorem tq152 {h0 h : gd_H} {D : gdD} {al : Int32} {r : gdR} (t : TQ h0 h D al r) (hE : EI (dE D)) {m : Nat} (hr : RI (dE D) m r) (hm : m < 1000000) {d : Nat} (hd : 182 ≤ d) : ∃ h', run gd_P0 d 152 [.ref 1196] h = some (.inl none, h') ∧ TQ h0 h' D al (pMo (dE D) al r) := by
  obtain ⟨q, hi, σ, hs, hx, hl⟩ := id t
  obtain ⟨I', e1, e2, e3⟩ := sp152 (d := d) (by omega) hs hx hr hm hE hl
  refine ⟨_, e1, t.i (fun σ2 hs2 _ => ?_) fun b hb => e3 b (by omega)⟩
  obtain ⟨-, ⟨-, -, -, z1⟩, -⟩ := id hs
  obtain ⟨-, ⟨-, -, -, z2⟩, -⟩ := id hs2
  rw [z1] at z2
  subst z2
  exact e2
/-- the model's row on trial -/
def TM (h0 h : gd_H) (D : gdD) (al : Int32) (r : gdR) : Prop := ∃ I', h = wI h0 I' ∧ (∀ b, mper b → I' b = gI h0 b) ∧ (∀ j ∈ ([2, 8, 20, 21, 28, 33, 34, 45, 56] : List Nat), I' 1231 j = gI h0 1231 j) ∧ I' 1231 0 = 0 ∧ MC I' (dE D) al r
theorem TM.mz {h0 h : gd_H} {D : gdD} {r : gdR} (t : TM h0 h D (-1) r) (hi : MI h0 D) : MZ h0 h ∧ gI h 1231 0 = 0 := by
  obtain ⟨I', rfl, h1, h2, h3, hx⟩ := t
  refine ⟨⟨I', gJ h0, rfl, h1, fun j hj => ?_, fun _ _ => rfl⟩, h3⟩
  by_cases z : j = 42
  · subst z; exact hx.2.1.2.2.trans hi.2.2.1.2.2.symm
  · refine h2 j ?_
    simp only [List.mem_cons, List.not_mem_nil, or_false] at hj ⊢
    omega
theorem TM.x {h0 h : gd_H} {D : gdD} {al : Int32} {r : gdR} (t : TM h0 h D al r) (hi : MI h0 D) : MS h ∧ MC (gI h) (dE D) al r ∧ LWm h (eL (dE D)) := by
  obtain ⟨I', rfl, h1, h2, h3, hx⟩ := t
  exact ⟨hi.1, hx, hi.lm.wI (h1 _ (by unfold mper; omega)) (h1 _ (by unfold mper; omega)) (h2 28 (by decide))⟩
theorem TM.i {h0 h : gd_H} {D : gdD} {al al' : Int32} {r r' : gdR} (t : TM h0 h D al r) {I' : Nat → Nat → Int32} (hx : MC I' (dE D) al' r') (hf : ∀ b, mper b → I' b = gI h b) (hj : ∀ j, j ∈ ([2, 8, 20, 21, 28, 33, 34, 45, 56] : List Nat) ∨ j = 0 → I' 1231 j = gI h 1231 j) : TM h0 (wI h I') D al' r' := by
  obtain ⟨I, rfl, h1, h2, h3, -⟩ := t
  exact ⟨I', rfl, fun b hb => (hf b hb).trans (h1 b hb), fun j hj2 => (hj j (Or.inl hj2)).trans (h2 j hj2), (hj 0 (Or.inr rfl)).trans h3, hx⟩
/-- the model takes its row -/
theorem sp211t {h h2 : gd_H} {D : gdD} {al : Int32} {r : gdR} (hi : MI h D) (t : TM h h2 D al r) {d : Nat} (hd : 2 ≤ d) : ∃ h', run gd_P0 d 211 [.ref 1231] h2 = some (.inl none, h') ∧ TM h h' D al (dNow D) := by
  have e := sp211 (t.x hi).1 hd
  obtain ⟨I, rfl, h1, h2, h3, hx⟩ := id t
  refine ⟨_, e, t.i ?_ (fun b hb => tk_ne (by unfold mper at hb; omega)) (fun j _ => by rw [tk_ne (by omega)])⟩
  obtain ⟨h0, ⟨iB, iN, iA⟩, iG, iK, iR, cS⟩ := hx
  refine ⟨h0, ⟨?_, ?_, ?_⟩, fun k hk => ?_, fun p hp => ?_, fun m hm => ?_, fun j hj => ?_⟩
  · rw [tk_ne (by omega)]; exact iB
  · rw [tk_ne (by omega)]; exact iN
  · rw [tk_ne (by omega)]; exact iA
  · rw [tk_ne (by omega)]; exact iG k hk
  · rw [tk_ne (by omega)]; exact iK p hp
  · rw [tk_ne (by omega)]; exact iR m hm
  · refine (cpy_in _ hj).trans ?_
    rw [gI_wI, h1 1250 (by unfold mper; omega)]
    obtain ⟨-, -, -, -, -, -, i7, -⟩ := hi
    exact i7 j hj
theorem TM.z {h : gd_H} {D : gdD} (hi : MI h D) : ∃ hz, wI h (up1 (gI h) 1231 0 0) = hz ∧ MI hz D ∧ gI hz 1231 0 = 0 ∧ ∀ r, MC (gI hz) (dE D) (-1) r → TM h hz D (-1) r := by
  obtain ⟨hz, e1, e2, e3, -⟩ := hi.z
  refine ⟨hz, e1, e2, e3, fun r hx => ⟨up1 (gI h) 1231 0 0, e1.symm, fun b hb => up1_nc _ _ _ (by unfold mper at hb; omega), fun j hj => up1_nj _ _ (fun z => by subst z; revert hj; decide), up1_eq _ _ _ _, ?_⟩⟩
  subst e1
  exact hx
theorem tm219 {h0 h : gd_H} {D : gdD} {al : Int32} {r : gdR} (hi : MI h0 D) (t : TM h0 h D al r) (hE : EI (dE D)) {m : Nat} (hr : RI (dE D) m r) (hm : m < 1000000) {d : Nat} (hd : 10 ≤ d) : ∃ h', run gd_P0 d 219 [.ref 1231] h = some (.inl none, h') ∧ TM h0 h' D al (pMo (dE D) al r) := by
  obtain ⟨hms, hx, hl⟩ := t.x hi
  obtain ⟨I', e1, e2, e3⟩ := sp219 (d := d) (by omega) hms hx hr hm hE hl
  exact ⟨_, e1, t.i e2 (fun b hb => e3 b (by unfold mper at hb; omega) (by unfold mper at hb; omega) (by unfold mper at hb; omega) (by unfold mper at hb; omega)) (fun j _ => by rw [e3 _ (by omega) (by omega) (by omega) (by omega)])⟩
def vAhead (D : gdD) (n w : Nat) : Int32 := if w = 0 then pb (mN (dE D) (-1) n (dNow D)) (eB (dE D)) else if w = 1 then pHs (dE D) (mN (dE D) (-1) n (dNow D)) else pFam (dE D) (mN (dE D) (-1) n (dNow D))
def vPass (D : gdD) (p q : Nat) : Int32 := fi (fun k => decide (mN (dE D) (-1) k (dNow D) q < mN (dE D) (-1) k (dNow D) p)) Int32.ofNat (-1) 100 0
def vSink (D : gdD) (p : Nat) : Int32 := fi (fun k => decide (pGain (mN (dE D) (-1) k (dNow D)) p < 0)) Int32.ofNat (-1) 100 0
def vFeed (D : gdD) (p n : Nat) : Int32 := if dNow D (14 + p) = -1 then -1 else fi (fun f => decide (0 ≤ pGain (mN (dE D) (-1) n (rw1 (dNow D) (7 + p) (Int32.ofNat f))) p)) Int32.ofNat (-1) 10 0
theorem c03 {w : Nat} (h : w ≤ 2) : w = 0 ∨ w = 1 ∨ w = 2 := by omega
theorem x67 {D : gdD} {n w : Nat} (hn : n ≤ 99) (hw : w ≤ 2) : XOk 67 [.int (Int32.ofNat n), .int (Int32.ofNat w)] D (.int (vAhead D n w)) := by
  intro d h hd hi hD
  obtain ⟨a, σ, m, h145, hσ, hs, hx, hr, hm, hl, hE, ha, hT9⟩ := hi.nw hD
  have hg := hi.1
  have hz : 4 ≤ gS h := by have := hi.2.2.2.2.2.2.2.2.2.2; omega
  obtain ⟨d, rfl⟩ : ∃ e, d = e + 1 := ⟨d - 1, by omega⟩
  obtain ⟨⟨hA1, hA2, hS1⟩, ⟨tA, rA8, tLw, rA9⟩, ⟨rA0, tA1, lA1⟩, ⟨rA1, tA2, lA2⟩, ⟨rA2, tA3, lA3⟩, ⟨rA3, tA4, lA4⟩, ⟨rA4, tA5, lA5⟩, ⟨rA5, tA6, lA6⟩, ⟨rA6, tA7, lA7⟩, ⟨rA7, tA8⟩, tS, ⟨rS0, tS1, lS1⟩, ⟨rS1, tS2, lS2⟩, ⟨rS2, tS3, lS3⟩, ⟨rS3, tS4, lS4⟩, ⟨rS4, tS5, lS5⟩, ⟨rS5, tS6, lS6⟩⟩ := id hs
  obtain ⟨⟨hB, hN⟩, ⟨iB, iN⟩, iG, iK, iR, cH, cF, cO, cA, cC, cW, cT, cG, cM, cL⟩ := id hx
  have e53 := sp53 hg (d := d) (by omega) (v := Int32.ofNat n) (lo := 0) (hi := 99) (by rw [j_neg (by omega)]; exact fun z => z) (by rw [j_ltL (by omega) (by omega)]; omega)
  have e53' := sp53 hg (d := d) (by omega) (v := Int32.ofNat w) (lo := 0) (hi := 2) (by rw [j_neg (by omega)]; exact fun z => z) (by rw [j_ltL (by omega) (by omega)]; omega)
  obtain ⟨h1, e68, t1⟩ := sp68 hi hD (d := d) (by omega)
  have L := lp_e (fun i s => go gd_P0 d 67 22 [.ref 96, .int (Int32.ofNat n), .int (Int32.ofNat w), .int (Int32.ofNat i)] [] s) (fun i s => TQ h s D (-1) (mN (dE D) (-1) i (dNow D))) n h1 t1 ?_
  · obtain ⟨h2, e2, t2⟩ := L
    obtain ⟨qh, hi2, σ2, hs2, hx2, hl2⟩ := id t2
    have hg2 := hi2.1
    have hr2 := RI.mN hE (Or.inl rfl) hr n (by omega)
    refine ⟨h2, ?_, qh⟩
    rw [r67, s67_0]
    simp (disch := first | omega | assumption) only [hg.1, x_r4 hg, x_t4 hg, hσ, h145, tA, rA8, tLw, rA9, rA0, tA1, lA1, rA1, tA2, lA2, rA2, tA3, lA3, rA3, tA4, lA4, rA4, tA5, lA5, rA5, tA6, lA6, rA6, tA7, lA7, rA7, tA8, tS, rS0, tS1, lS1, rS1, tS2, lS2, rS2, tS3, lS3, rS3, tS4, lS4, rS4, tS5, lS5, rS5, tS6, lS6, iB, iN, iG, iK, iR, cH, cF, cO, cA, cC, cT, cG, cM, cL, e53, s67_8, e53', s67_15, e68, s67_19, gT_wI, gR_wI, gL_wI, gS_wI, gU_wI, gI_wI, gJ_wI, gI_wJ, gJ_wJ, gR_wJ, gT_wJ, gL_wJ, gS_wJ, gU_wJ, gI_wR, gJ_wR, gR_wR, gT_wR, gL_wR, gS_wR, gU_wR, wI_wI, wJ_wJ, wR_wR, j_s, j_add, j_addL, j_addR, j_mulL, j_mulR, j_cl, j_clL, j_neg, j_negL, j_nn, j_lt, j_le, j_eq, j_ltL, j_ltR, j_leL, j_leR, j_eqL, j_eqR, j_m1, j_m1L, j_m1R, j_eqLL, j_ltLL, j_leLL, n_le0, n_le1, n_lt0, n_lt1, gc_v, gc_n, ↓reduceIte, and_true, true_and, and_self, or_self, or_false, false_or, not_false_eq_true, not_true_eq_false, false_and, and_false, Nat.reduceAdd, Nat.reduceEqDiff, Nat.reduceLeDiff, Nat.reduceLT]
    refine Eq.trans e2 ?_
    try dsimp only
    rw [s67_22]
    unfold vAhead
    rcases c03 hw with rfl | rfl | rfl
    all_goals simp (disch := first | omega | assumption) only [x_r4 hg2, x_t4 hg2, hg2.1, x_r2 hg2, x_t2 hg2, gT_wI, gR_wI, gL_wI, gS_wI, gU_wI, gI_wI, gJ_wI, gI_wJ, gJ_wJ, gR_wJ, gT_wJ, gL_wJ, gS_wJ, gU_wJ, gI_wR, gJ_wR, gR_wR, gT_wR, gL_wR, gS_wR, gU_wR, wI_wI, wJ_wJ, wR_wR, j_s, j_add, j_addL, j_addR, j_mulL, j_mulR, j_cl, j_clL, j_neg, j_negL, j_nn, j_lt, j_le, j_eq, j_ltL, j_ltR, j_leL, j_leR, j_eqL, j_eqR, j_m1, j_m1L, j_m1R, j_eqLL, j_ltLL, j_leLL, n_le0, n_le1, n_lt0, n_lt1, gc_v, gc_n, ↓reduceIte, and_true, true_and, and_self, or_self, or_false, false_or, not_false_eq_true, not_true_eq_false, false_and, and_false, Nat.reduceAdd, Nat.reduceEqDiff, Nat.reduceLeDiff, Nat.reduceLT, sp158 (d := d) (by omega) hs2 hx2, sp168 (d := d) (by omega) hs2 hx2, sp167 (d := d) (by omega) hs2 hx2 hr2, s67_51, s67_66, s67_76]
  · intro i hi s ht
    try dsimp only
    obtain ⟨qh, hi2, σ2, hs2, hx2, hl2⟩ := id ht
    have hg2 := hi2.1
    obtain ⟨s', e152, t'⟩ := tq152 ht hE (RI.mN hE (Or.inl rfl) hr i (by omega)) (by omega) (d := d) (by omega)
    refine ⟨s', ?_, t'⟩
    rw [s67_22]
    simp (disch := first | omega | assumption) only [x_r4 hg2, x_t4 hg2, hg2.1, x_r2 hg2, x_t2 hg2, gT_wI, gR_wI, gL_wI, gS_wI, gU_wI, gI_wI, gJ_wI, gI_wJ, gJ_wJ, gR_wJ, gT_wJ, gL_wJ, gS_wJ, gU_wJ, gI_wR, gJ_wR, gR_wR, gT_wR, gL_wR, gS_wR, gU_wR, wI_wI, wJ_wJ, wR_wR, j_s, j_add, j_addL, j_addR, j_mulL, j_mulR, j_cl, j_clL, j_neg, j_negL, j_nn, j_lt, j_le, j_eq, j_ltL, j_ltR, j_leL, j_leR, j_eqL, j_eqR, j_m1, j_m1L, j_m1R, j_eqLL, j_ltLL, j_leLL, n_le0, n_le1, n_lt0, n_lt1, gc_v, gc_n, ↓reduceIte, and_true, true_and, and_self, or_self, or_false, false_or, not_false_eq_true, not_true_eq_false, false_and, and_false, Nat.reduceAdd, Nat.reduceEqDiff, Nat.reduceLeDiff, Nat.reduceLT, e152, s67_34]
theorem x67a {D : gdD} {v v2 : Int32} (hv : v < 0 ∨ 99 < v) : XNo 67 [.int v, .int v2] D 25 := by
  intro d h hd hi hD
  obtain ⟨a, σ, m, h145, hσ, hs, hx, hr, hm, hl, hE, ha, hT9⟩ := hi.nw hD
  have hg := hi.1
  have hz : 4 ≤ gS h := by have := hi.2.2.2.2.2.2.2.2.2.2; omega
  obtain ⟨d, rfl⟩ : ∃ e, d = e + 1 := ⟨d - 1, by omega⟩
  obtain ⟨⟨hA1, hA2, hS1⟩, ⟨tA, rA8, tLw, rA9⟩, ⟨rA0, tA1, lA1⟩, ⟨rA1, tA2, lA2⟩, ⟨rA2, tA3, lA3⟩, ⟨rA3, tA4, lA4⟩, ⟨rA4, tA5, lA5⟩, ⟨rA5, tA6, lA6⟩, ⟨rA6, tA7, lA7⟩, ⟨rA7, tA8⟩, tS, ⟨rS0, tS1, lS1⟩, ⟨rS1, tS2, lS2⟩, ⟨rS2, tS3, lS3⟩, ⟨rS3, tS4, lS4⟩, ⟨rS4, tS5, lS5⟩, ⟨rS5, tS6, lS6⟩⟩ := id hs
  obtain ⟨⟨hB, hN⟩, ⟨iB, iN⟩, iG, iK, iR, cH, cF, cO, cA, cC, cW, cT, cG, cM, cL⟩ := id hx
  rw [r67, s67_0]
  simp (disch := first | omega | assumption) only [hg.1, x_r4 hg, x_t4 hg, hσ, h145, tA, rA8, tLw, rA9, rA0, tA1, lA1, rA1, tA2, lA2, rA2, tA3, lA3, rA3, tA4, lA4, rA4, tA5, lA5, rA5, tA6, lA6, rA6, tA7, lA7, rA7, tA8, tS, rS0, tS1, lS1, rS1, tS2, lS2, rS2, tS3, lS3, rS3, tS4, lS4, rS4, tS5, lS5, rS5, tS6, lS6, iB, iN, iG, iK, iR, cH, cF, cO, cA, cC, cT, cG, cM, cL, sp53n hg hz (d := d) (by omega) hv, gc_x, gx_n (k := 67) (pc := 5) (t := 25) rfl, gT_wI, gR_wI, gL_wI, gS_wI, gU_wI, gI_wI, gJ_wI, gI_wJ, gJ_wJ, gR_wJ, gT_wJ, gL_wJ, gS_wJ, gU_wJ, gI_wR, gJ_wR, gR_wR, gT_wR, gL_wR, gS_wR, gU_wR, wI_wI, wJ_wJ, wR_wR, j_s, j_add, j_addL, j_addR, j_mulL, j_mulR, j_cl, j_clL, j_neg, j_negL, j_nn, j_lt, j_le, j_eq, j_ltL, j_ltR, j_leL, j_leR, j_eqL, j_eqR, j_m1, j_m1L, j_m1R, j_eqLL, j_ltLL, j_leLL, n_le0, n_le1, n_lt0, n_lt1, gc_v, gc_n, ↓reduceIte, and_true, true_and, and_self, or_self, or_false, false_or, not_false_eq_true, not_true_eq_false, false_and, and_false, Nat.reduceAdd, Nat.reduceEqDiff, Nat.reduceLeDiff, Nat.reduceLT]
theorem x67b {D : gdD} {n : Nat} {v2 : Int32} (hn : n ≤ 99) (hv : v2 < 0 ∨ 2 < v2) : XNo 67 [.int (Int32.ofNat n), .int v2] D 25 := by
  intro d h hd hi hD
  obtain ⟨a, σ, m, h145, hσ, hs, hx, hr, hm, hl, hE, ha, hT9⟩ := hi.nw hD
  have hg := hi.1
  have hz : 4 ≤ gS h := by have := hi.2.2.2.2.2.2.2.2.2.2; omega
  obtain ⟨d, rfl⟩ : ∃ e, d = e + 1 := ⟨d - 1, by omega⟩
  obtain ⟨⟨hA1, hA2, hS1⟩, ⟨tA, rA8, tLw, rA9⟩, ⟨rA0, tA1, lA1⟩, ⟨rA1, tA2, lA2⟩, ⟨rA2, tA3, lA3⟩, ⟨rA3, tA4, lA4⟩, ⟨rA4, tA5, lA5⟩, ⟨rA5, tA6, lA6⟩, ⟨rA6, tA7, lA7⟩, ⟨rA7, tA8⟩, tS, ⟨rS0, tS1, lS1⟩, ⟨rS1, tS2, lS2⟩, ⟨rS2, tS3, lS3⟩, ⟨rS3, tS4, lS4⟩, ⟨rS4, tS5, lS5⟩, ⟨rS5, tS6, lS6⟩⟩ := id hs
  obtain ⟨⟨hB, hN⟩, ⟨iB, iN⟩, iG, iK, iR, cH, cF, cO, cA, cC, cW, cT, cG, cM, cL⟩ := id hx
  rw [r67, s67_0]
  simp (disch := first | omega | assumption) only [hg.1, x_r4 hg, x_t4 hg, hσ, h145, tA, rA8, tLw, rA9, rA0, tA1, lA1, rA1, tA2, lA2, rA2, tA3, lA3, rA3, tA4, lA4, rA4, tA5, lA5, rA5, tA6, lA6, rA6, tA7, lA7, rA7, tA8, tS, rS0, tS1, lS1, rS1, tS2, lS2, rS2, tS3, lS3, rS3, tS4, lS4, rS4, tS5, lS5, rS5, tS6, lS6, iB, iN, iG, iK, iR, cH, cF, cO, cA, cC, cT, cG, cM, cL, sp53 hg (d := d) (by omega) (v := Int32.ofNat n) (lo := 0) (hi := 99) (by rw [j_neg (by omega)]; exact fun z => z) (by rw [j_ltL (by omega) (by omega)]; omega), s67_8, sp53n hg hz (d := d) (by omega) hv, gc_x, gx_n (k := 67) (pc := 12) (t := 25) rfl, gT_wI, gR_wI, gL_wI, gS_wI, gU_wI, gI_wI, gJ_wI, gI_wJ, gJ_wJ, gR_wJ, gT_wJ, gL_wJ, gS_wJ, gU_wJ, gI_wR, gJ_wR, gR_wR, gT_wR, gL_wR, gS_wR, gU_wR, wI_wI, wJ_wJ, wR_wR, j_s, j_add, j_addL, j_addR, j_mulL, j_mulR, j_cl, j_clL, j_neg, j_negL, j_nn, j_lt, j_le, j_eq, j_ltL, j_ltR, j_leL, j_leR, j_eqL, j_eqR, j_m1, j_m1L, j_m1R, j_eqLL, j_ltLL, j_leLL, n_le0, n_le1, n_lt0, n_lt1, gc_v, gc_n, ↓reduceIte, and_true, true_and, and_self, or_self, or_false, false_or, not_false_eq_true, not_true_eq_false, false_and, and_false, Nat.reduceAdd, Nat.reduceEqDiff, Nat.reduceLeDiff, Nat.reduceLT]
theorem x69 {D : gdD} {p q : Nat} (hp : p < eN (dE D)) (hq : q < eN (dE D)) (hpq : p ≠ q) : XOk 69 [.int (Int32.ofNat p), .int (Int32.ofNat q)] D (.int (vPass D p q)) := by
  intro d h hd hi hD
  obtain ⟨a, σ, m, h145, hσ, hs, hx, hr, hm, hl, hE, ha, hT9⟩ := hi.nw hD
  have hg := hi.1
  have hz : 4 ≤ gS h := by have := hi.2.2.2.2.2.2.2.2.2.2; omega
  obtain ⟨d, rfl⟩ : ∃ e, d = e + 1 := ⟨d - 1, by omega⟩
  obtain ⟨⟨hA1, hA2, hS1⟩, ⟨tA, rA8, tLw, rA9⟩, ⟨rA0, tA1, lA1⟩, ⟨rA1, tA2, lA2⟩, ⟨rA2, tA3, lA3⟩, ⟨rA3, tA4, lA4⟩, ⟨rA4, tA5, lA5⟩, ⟨rA5, tA6, lA6⟩, ⟨rA6, tA7, lA7⟩, ⟨rA7, tA8⟩, tS, ⟨rS0, tS1, lS1⟩, ⟨rS1, tS2, lS2⟩, ⟨rS2, tS3, lS3⟩, ⟨rS3, tS4, lS4⟩, ⟨rS4, tS5, lS5⟩, ⟨rS5, tS6, lS6⟩⟩ := id hs
  obtain ⟨⟨hB, hN⟩, ⟨iB, iN⟩, iG, iK, iR, cH, cF, cO, cA, cC, cW, cT, cG, cM, cL⟩ := id hx
  have npq : (p = q) = False := eq_false hpq
  obtain ⟨h1, e68, t1⟩ := sp68 hi hD (d := d) (by omega)
  have L := lp_fx (fun i s => go gd_P0 d 69 29 [.ref 96, .int (Int32.ofNat p), .int (Int32.ofNat q), .int (Int32.ofNat i)] [] s) (fun v s => some (.inl (some (.int v)), s)) (fun i s => TQ h s D (-1) (mN (dE D) (-1) i (dNow D))) (XQ h) (fun k => decide (mN (dE D) (-1) k (dNow D) q < mN (dE D) (-1) k (dNow D) p)) Int32.ofNat (-1) 100 0 h1 t1 ?_ ?_
  · obtain ⟨h2, e2, q2⟩ := L
    refine ⟨h2, ?_, q2⟩
    rw [r69, s69_0]
    simp (disch := first | omega | assumption) only [hg.1, x_r4 hg, x_t4 hg, hσ, h145, tA, rA8, tLw, rA9, rA0, tA1, lA1, rA1, tA2, lA2, rA2, tA3, lA3, rA3, tA4, lA4, rA4, tA5, lA5, rA5, tA6, lA6, rA6, tA7, lA7, rA7, tA8, tS, rS0, tS1, lS1, rS1, tS2, lS2, rS2, tS3, lS3, rS3, tS4, lS4, rS4, tS5, lS5, rS5, tS6, lS6, iB, iN, iG, iK, iR, cH, cF, cO, cA, cC, cT, cG, cM, cL, sp64 hg hσ hs hx (d := d) (by omega), s69_5, s69_10, npq, s69_22, e68, s69_26, gT_wI, gR_wI, gL_wI, gS_wI, gU_wI, gI_wI, gJ_wI, gI_wJ, gJ_wJ, gR_wJ, gT_wJ, gL_wJ, gS_wJ, gU_wJ, gI_wR, gJ_wR, gR_wR, gT_wR, gL_wR, gS_wR, gU_wR, wI_wI, wJ_wJ, wR_wR, j_s, j_add, j_addL, j_addR, j_mulL, j_mulR, j_cl, j_clL, j_neg, j_negL, j_nn, j_lt, j_le, j_eq, j_ltL, j_ltR, j_leL, j_leR, j_eqL, j_eqR, j_m1, j_m1L, j_m1R, j_eqLL, j_ltLL, j_leLL, n_le0, n_le1, n_lt0, n_lt1, gc_v, gc_n, ↓reduceIte, and_true, true_and, and_self, or_self, or_false, false_or, not_false_eq_true, not_true_eq_false, false_and, and_false, Nat.reduceAdd, Nat.reduceEqDiff, Nat.reduceLeDiff, Nat.reduceLT]
    exact e2
  · intro i s i0 hi ht
    try dsimp only
    obtain ⟨qh, hi2, σ2, hs2, hx2, hl2⟩ := id ht
    have hg2 := hi2.1
    obtain ⟨⟨hA1, hA2, hS1⟩, ⟨tA, rA8, tLw, rA9⟩, ⟨rA0, tA1, lA1⟩, ⟨rA1, tA2, lA2⟩, ⟨rA2, tA3, lA3⟩, ⟨rA3, tA4, lA4⟩, ⟨rA4, tA5, lA5⟩, ⟨rA5, tA6, lA6⟩, ⟨rA6, tA7, lA7⟩, ⟨rA7, tA8⟩, tS, ⟨rS0, tS1, lS1⟩, ⟨rS1, tS2, lS2⟩, ⟨rS2, tS3, lS3⟩, ⟨rS3, tS4, lS4⟩, ⟨rS4, tS5, lS5⟩, ⟨rS5, tS6, lS6⟩⟩ := id hs2
    obtain ⟨⟨hB, hN⟩, ⟨iB, iN⟩, iG, iK, iR, cH, cF, cO, cA, cC, cW, cT, cG, cM, cL⟩ := id hx2
    refine ⟨fun hc => ⟨s, ?_, qh⟩, fun hc => ?_⟩
    · have c := Int32.not_le.mpr (of_decide_eq_true hc)
      rw [s69_29]
      simp (disch := first | omega | assumption) only [x_r4 hg2, x_t4 hg2, hg2.1, x_r2 hg2, x_t2 hg2, gT_wI, gR_wI, gL_wI, gS_wI, gU_wI, gI_wI, gJ_wI, gI_wJ, gJ_wJ, gR_wJ, gT_wJ, gL_wJ, gS_wJ, gU_wJ, gI_wR, gJ_wR, gR_wR, gT_wR, gL_wR, gS_wR, gU_wR, wI_wI, wJ_wJ, wR_wR, j_s, j_add, j_addL, j_addR, j_mulL, j_mulR, j_cl, j_clL, j_neg, j_negL, j_nn, j_lt, j_le, j_eq, j_ltL, j_ltR, j_leL, j_leR, j_eqL, j_eqR, j_m1, j_m1L, j_m1R, j_eqLL, j_ltLL, j_leLL, n_le0, n_le1, n_lt0, n_lt1, gc_v, gc_n, ↓reduceIte, and_true, true_and, and_self, or_self, or_false, false_or, not_false_eq_true, not_true_eq_false, false_and, and_false, Nat.reduceAdd, Nat.reduceEqDiff, Nat.reduceLeDiff, Nat.reduceLT, tA, rA8, tLw, rA9, rA0, tA1, lA1, rA1, tA2, lA2, rA2, tA3, lA3, rA3, tA4, lA4, rA4, tA5, lA5, rA5, tA6, lA6, rA6, tA7, lA7, rA7, tA8, tS, rS0, tS1, lS1, rS1, tS2, lS2, rS2, tS3, lS3, rS3, tS4, lS4, rS4, tS5, lS5, rS5, tS6, lS6, iB, iN, iG, iK, iR, cH, cF, cO, cA, cC, cT, cG, cM, cL, c, gT_wI, gR_wI, gL_wI, gS_wI, gU_wI, gI_wI, gJ_wI, gI_wJ, gJ_wJ, gR_wJ, gT_wJ, gL_wJ, gS_wJ, gU_wJ, gI_wR, gJ_wR, gR_wR, gT_wR, gL_wR, gS_wR, gU_wR, wI_wI, wJ_wJ, wR_wR, j_s, j_add, j_addL, j_addR, j_mulL, j_mulR, j_cl, j_clL, j_neg, j_negL, j_nn, j_lt, j_le, j_eq, j_ltL, j_ltR, j_leL, j_leR, j_eqL, j_eqR, j_m1, j_m1L, j_m1R, j_eqLL, j_ltLL, j_leLL, n_le0, n_le1, n_lt0, n_lt1, gc_v, gc_n, ↓reduceIte, and_true, true_and, and_self, or_self, or_false, false_or, not_false_eq_true, not_true_eq_false, false_and, and_false, Nat.reduceAdd, Nat.reduceEqDiff, Nat.reduceLeDiff, Nat.reduceLT]
    · have c := Int32.not_lt.mp (of_decide_eq_false hc)
      obtain ⟨s', e152, t'⟩ := tq152 ht hE (RI.mN hE (Or.inl rfl) hr i (by omega)) (by omega) (d := d) (by omega)
      refine ⟨s', ?_, t'⟩
      rw [s69_29]
      simp (disch := first | omega | assumption) only [x_r4 hg2, x_t4 hg2, hg2.1, x_r2 hg2, x_t2 hg2, gT_wI, gR_wI, gL_wI, gS_wI, gU_wI, gI_wI, gJ_wI, gI_wJ, gJ_wJ, gR_wJ, gT_wJ, gL_wJ, gS_wJ, gU_wJ, gI_wR, gJ_wR, gR_wR, gT_wR, gL_wR, gS_wR, gU_wR, wI_wI, wJ_wJ, wR_wR, j_s, j_add, j_addL, j_addR, j_mulL, j_mulR, j_cl, j_clL, j_neg, j_negL, j_nn, j_lt, j_le, j_eq, j_ltL, j_ltR, j_leL, j_leR, j_eqL, j_eqR, j_m1, j_m1L, j_m1R, j_eqLL, j_ltLL, j_leLL, n_le0, n_le1, n_lt0, n_lt1, gc_v, gc_n, ↓reduceIte, and_true, true_and, and_self, or_self, or_false, false_or, not_false_eq_true, not_true_eq_false, false_and, and_false, Nat.reduceAdd, Nat.reduceEqDiff, Nat.reduceLeDiff, Nat.reduceLT, tA, rA8, tLw, rA9, rA0, tA1, lA1, rA1, tA2, lA2, rA2, tA3, lA3, rA3, tA4, lA4, rA4, tA5, lA5, rA5, tA6, lA6, rA6, tA7, lA7, rA7, tA8, tS, rS0, tS1, lS1, rS1, tS2, lS2, rS2, tS3, lS3, rS3, tS4, lS4, rS4, tS5, lS5, rS5, tS6, lS6, iB, iN, iG, iK, iR, cH, cF, cO, cA, cC, cT, cG, cM, cL, c, e152, s69_65, gT_wI, gR_wI, gL_wI, gS_wI, gU_wI, gI_wI, gJ_wI, gI_wJ, gJ_wJ, gR_wJ, gT_wJ, gL_wJ, gS_wJ, gU_wJ, gI_wR, gJ_wR, gR_wR, gT_wR, gL_wR, gS_wR, gU_wR, wI_wI, wJ_wJ, wR_wR, j_s, j_add, j_addL, j_addR, j_mulL, j_mulR, j_cl, j_clL, j_neg, j_negL, j_nn, j_lt, j_le, j_eq, j_ltL, j_ltR, j_leL, j_leR, j_eqL, j_eqR, j_m1, j_m1L, j_m1R, j_eqLL, j_ltLL, j_leLL, n_le0, n_le1, n_lt0, n_lt1, gc_v, gc_n, ↓reduceIte, and_true, true_and, and_self, or_self, or_false, false_or, not_false_eq_true, not_true_eq_false, false_and, and_false, Nat.reduceAdd, Nat.reduceEqDiff, Nat.reduceLeDiff, Nat.reduceLT]
  · intro s ht
    refine ⟨s, ?_, ht.1⟩
    try dsimp only
    rw [s69_29]
    simp (disch := first | omega | assumption) only [Nat.zero_add, gT_wI, gR_wI, gL_wI, gS_wI, gU_wI, gI_wI, gJ_wI, gI_wJ, gJ_wJ, gR_wJ, gT_wJ, gL_wJ, gS_wJ, gU_wJ, gI_wR, gJ_wR, gR_wR, gT_wR, gL_wR, gS_wR, gU_wR, wI_wI, wJ_wJ, wR_wR, j_s, j_add, j_addL, j_addR, j_mulL, j_mulR, j_cl, j_clL, j_neg, j_negL, j_nn, j_lt, j_le, j_eq, j_ltL, j_ltR, j_leL, j_leR, j_eqL, j_eqR, j_m1, j_m1L, j_m1R, j_eqLL, j_ltLL, j_leLL, n_le0, n_le1, n_lt0, n_lt1, gc_v, gc_n, ↓reduceIte, and_true, true_and, and_self, or_self, or_false, false_or, not_false_eq_true, not_true_eq_false, false_and, and_false, Nat.reduceAdd, Nat.reduceEqDiff, Nat.reduceLeDiff, Nat.reduceLT]
theorem x69a {D : gdD} {v v2 : Int32} (hv : v < 0 ∨ Int32.ofNat (eN (dE D)) ≤ v) : XNo 69 [.int v, .int v2] D 24 := by
  intro d h hd hi hD
  obtain ⟨a, σ, m, h145, hσ, hs, hx, hr, hm, hl, hE, ha, hT9⟩ := hi.nw hD
  have hg := hi.1
  have hz : 4 ≤ gS h := by have := hi.2.2.2.2.2.2.2.2.2.2; omega
  obtain ⟨d, rfl⟩ : ∃ e, d = e + 1 := ⟨d - 1, by omega⟩
  obtain ⟨⟨hA1, hA2, hS1⟩, ⟨tA, rA8, tLw, rA9⟩, ⟨rA0, tA1, lA1⟩, ⟨rA1, tA2, lA2⟩, ⟨rA2, tA3, lA3⟩, ⟨rA3, tA4, lA4⟩, ⟨rA4, tA5, lA5⟩, ⟨rA5, tA6, lA6⟩, ⟨rA6, tA7, lA7⟩, ⟨rA7, tA8⟩, tS, ⟨rS0, tS1, lS1⟩, ⟨rS1, tS2, lS2⟩, ⟨rS2, tS3, lS3⟩, ⟨rS3, tS4, lS4⟩, ⟨rS4, tS5, lS5⟩, ⟨rS5, tS6, lS6⟩⟩ := id hs
  obtain ⟨⟨hB, hN⟩, ⟨iB, iN⟩, iG, iK, iR, cH, cF, cO, cA, cC, cW, cT, cG, cM, cL⟩ := id hx
  rw [r69, s69_0]
  simp (disch := first | omega | assumption) only [hg.1, x_r4 hg, x_t4 hg, hσ, h145, tA, rA8, tLw, rA9, rA0, tA1, lA1, rA1, tA2, lA2, rA2, tA3, lA3, rA3, tA4, lA4, rA4, tA5, lA5, rA5, tA6, lA6, rA6, tA7, lA7, rA7, tA8, tS, rS0, tS1, lS1, rS1, tS2, lS2, rS2, tS3, lS3, rS3, tS4, lS4, rS4, tS5, lS5, rS5, tS6, lS6, iB, iN, iG, iK, iR, cH, cF, cO, cA, cC, cT, cG, cM, cL, sp64n hg hz hσ hs hx (d := d) (by omega) hv, gc_x, gx_n (k := 69) (pc := 2) (t := 24) rfl, gT_wI, gR_wI, gL_wI, gS_wI, gU_wI, gI_wI, gJ_wI, gI_wJ, gJ_wJ, gR_wJ, gT_wJ, gL_wJ, gS_wJ, gU_wJ, gI_wR, gJ_wR, gR_wR, gT_wR, gL_wR, gS_wR, gU_wR, wI_wI, wJ_wJ, wR_wR, j_s, j_add, j_addL, j_addR, j_mulL, j_mulR, j_cl, j_clL, j_neg, j_negL, j_nn, j_lt, j_le, j_eq, j_ltL, j_ltR, j_leL, j_leR, j_eqL, j_eqR, j_m1, j_m1L, j_m1R, j_eqLL, j_ltLL, j_leLL, n_le0, n_le1, n_lt0, n_lt1, gc_v, gc_n, ↓reduceIte, and_true, true_and, and_self, or_self, or_false, false_or, not_false_eq_true, not_true_eq_false, false_and, and_false, Nat.reduceAdd, Nat.reduceEqDiff, Nat.reduceLeDiff, Nat.reduceLT]
theorem x69b {D : gdD} {p : Nat} (hp : p < eN (dE D)) {v2 : Int32} (hv : v2 < 0 ∨ Int32.ofNat (eN (dE D)) ≤ v2) : XNo 69 [.int (Int32.ofNat p), .int v2] D 24 := by
  intro d h hd hi hD
  obtain ⟨a, σ, m, h145, hσ, hs, hx, hr, hm, hl, hE, ha, hT9⟩ := hi.nw hD
  have hg := hi.1
  have hz : 4 ≤ gS h := by have := hi.2.2.2.2.2.2.2.2.2.2; omega
  obtain ⟨d, rfl⟩ : ∃ e, d = e + 1 := ⟨d - 1, by omega⟩
  obtain ⟨⟨hA1, hA2, hS1⟩, ⟨tA, rA8, tLw, rA9⟩, ⟨rA0, tA1, lA1⟩, ⟨rA1, tA2, lA2⟩, ⟨rA2, tA3, lA3⟩, ⟨rA3, tA4, lA4⟩, ⟨rA4, tA5, lA5⟩, ⟨rA5, tA6, lA6⟩, ⟨rA6, tA7, lA7⟩, ⟨rA7, tA8⟩, tS, ⟨rS0, tS1, lS1⟩, ⟨rS1, tS2, lS2⟩, ⟨rS2, tS3, lS3⟩, ⟨rS3, tS4, lS4⟩, ⟨rS4, tS5, lS5⟩, ⟨rS5, tS6, lS6⟩⟩ := id hs
  obtain ⟨⟨hB, hN⟩, ⟨iB, iN⟩, iG, iK, iR, cH, cF, cO, cA, cC, cW, cT, cG, cM, cL⟩ := id hx
  rw [r69, s69_0]
  simp (disch := first | omega | assumption) only [hg.1, x_r4 hg, x_t4 hg, hσ, h145, tA, rA8, tLw, rA9, rA0, tA1, lA1, rA1, tA2, lA2, rA2, tA3, lA3, rA3, tA4, lA4, rA4, tA5, lA5, rA5, tA6, lA6, rA6, tA7, lA7, rA7, tA8, tS, rS0, tS1, lS1, rS1, tS2, lS2, rS2, tS3, lS3, rS3, tS4, lS4, rS4, tS5, lS5, rS5, tS6, lS6, iB, iN, iG, iK, iR, cH, cF, cO, cA, cC, cT, cG, cM, cL, sp64 hg hσ hs hx (d := d) (by omega) hp, s69_5, sp64n hg hz hσ hs hx (d := d) (by omega) hv, gc_x, gx_n (k := 69) (pc := 7) (t := 24) rfl, gT_wI, gR_wI, gL_wI, gS_wI, gU_wI, gI_wI, gJ_wI, gI_wJ, gJ_wJ, gR_wJ, gT_wJ, gL_wJ, gS_wJ, gU_wJ, gI_wR, gJ_wR, gR_wR, gT_wR, gL_wR, gS_wR, gU_wR, wI_wI, wJ_wJ, wR_wR, j_s, j_add, j_addL, j_addR, j_mulL, j_mulR, j_cl, j_clL, j_neg, j_negL, j_nn, j_lt, j_le, j_eq, j_ltL, j_ltR, j_leL, j_leR, j_eqL, j_eqR, j_m1, j_m1L, j_m1R, j_eqLL, j_ltLL, j_leLL, n_le0, n_le1, n_lt0, n_lt1, gc_v, gc_n, ↓reduceIte, and_true, true_and, and_self, or_self, or_false, false_or, not_false_eq_true, not_true_eq_false, false_and, and_false, Nat.reduceAdd, Nat.reduceEqDiff, Nat.reduceLeDiff, Nat.reduceLT]
theorem x69c {D : gdD} {p : Nat} (hp : p < eN (dE D)) : XNo 69 [.int (Int32.ofNat p), .int (Int32.ofNat p)] D 25 := by
  intro d h hd hi hD
  obtain ⟨a, σ, m, h145, hσ, hs, hx, hr, hm, hl, hE, ha, hT9⟩ := hi.nw hD
  have hg := hi.1
  have hz : 4 ≤ gS h := by have := hi.2.2.2.2.2.2.2.2.2.2; omega
  obtain ⟨d, rfl⟩ : ∃ e, d = e + 1 := ⟨d - 1, by omega⟩
  obtain ⟨⟨hA1, hA2, hS1⟩, ⟨tA, rA8, tLw, rA9⟩, ⟨rA0, tA1, lA1⟩, ⟨rA1, tA2, lA2⟩, ⟨rA2, tA3, lA3⟩, ⟨rA3, tA4, lA4⟩, ⟨rA4, tA5, lA5⟩, ⟨rA5, tA6, lA6⟩, ⟨rA6, tA7, lA7⟩, ⟨rA7, tA8⟩, tS, ⟨rS0, tS1, lS1⟩, ⟨rS1, tS2, lS2⟩, ⟨rS2, tS3, lS3⟩, ⟨rS3, tS4, lS4⟩, ⟨rS4, tS5, lS5⟩, ⟨rS5, tS6, lS6⟩⟩ := id hs
  obtain ⟨⟨hB, hN⟩, ⟨iB, iN⟩, iG, iK, iR, cH, cF, cO, cA, cC, cW, cT, cG, cM, cL⟩ := id hx
  rw [r69, s69_0]
  simp (disch := first | omega | assumption) only [hg.1, x_r4 hg, x_t4 hg, hσ, h145, tA, rA8, tLw, rA9, rA0, tA1, lA1, rA1, tA2, lA2, rA2, tA3, lA3, rA3, tA4, lA4, rA4, tA5, lA5, rA5, tA6, lA6, rA6, tA7, lA7, rA7, tA8, tS, rS0, tS1, lS1, rS1, tS2, lS2, rS2, tS3, lS3, rS3, tS4, lS4, rS4, tS5, lS5, rS5, tS6, lS6, iB, iN, iG, iK, iR, cH, cF, cO, cA, cC, cT, cG, cM, cL, sp64 hg hσ hs hx (d := d) (by omega) hp, s69_5, s69_10, sp53n hg hz (d := d) (by omega) (v := 1) (lo := 0) (hi := 0) (Or.inr (by decide)), gc_x, gx_n (k := 69) (pc := 19) (t := 25) rfl, gT_wI, gR_wI, gL_wI, gS_wI, gU_wI, gI_wI, gJ_wI, gI_wJ, gJ_wJ, gR_wJ, gT_wJ, gL_wJ, gS_wJ, gU_wJ, gI_wR, gJ_wR, gR_wR, gT_wR, gL_wR, gS_wR, gU_wR, wI_wI, wJ_wJ, wR_wR, j_s, j_add, j_addL, j_addR, j_mulL, j_mulR, j_cl, j_clL, j_neg, j_negL, j_nn, j_lt, j_le, j_eq, j_ltL, j_ltR, j_leL, j_leR, j_eqL, j_eqR, j_m1, j_m1L, j_m1R, j_eqLL, j_ltLL, j_leLL, n_le0, n_le1, n_lt0, n_lt1, gc_v, gc_n, ↓reduceIte, and_true, true_and, and_self, or_self, or_false, false_or, not_false_eq_true, not_true_eq_false, false_and, and_false, Nat.reduceAdd, Nat.reduceEqDiff, Nat.reduceLeDiff, Nat.reduceLT]
theorem x88 {D : gdD} {p : Nat} (hp : p < eN (dE D)) : XOk 88 [.int (Int32.ofNat p)] D (.int (vSink D p)) := by
  intro d h hd hi hD
  obtain ⟨a, σ, m, h145, hσ, hs, hx, hr, hm, hl, hE, ha, hT9⟩ := hi.nw hD
  have hg := hi.1
  have hz : 4 ≤ gS h := by have := hi.2.2.2.2.2.2.2.2.2.2; omega
  obtain ⟨d, rfl⟩ : ∃ e, d = e + 1 := ⟨d - 1, by omega⟩
  obtain ⟨⟨hA1, hA2, hS1⟩, ⟨tA, rA8, tLw, rA9⟩, ⟨rA0, tA1, lA1⟩, ⟨rA1, tA2, lA2⟩, ⟨rA2, tA3, lA3⟩, ⟨rA3, tA4, lA4⟩, ⟨rA4, tA5, lA5⟩, ⟨rA5, tA6, lA6⟩, ⟨rA6, tA7, lA7⟩, ⟨rA7, tA8⟩, tS, ⟨rS0, tS1, lS1⟩, ⟨rS1, tS2, lS2⟩, ⟨rS2, tS3, lS3⟩, ⟨rS3, tS4, lS4⟩, ⟨rS4, tS5, lS5⟩, ⟨rS5, tS6, lS6⟩⟩ := id hs
  obtain ⟨⟨hB, hN⟩, ⟨iB, iN⟩, iG, iK, iR, cH, cF, cO, cA, cC, cW, cT, cG, cM, cL⟩ := id hx
  obtain ⟨h1, e68, t1⟩ := sp68 hi hD (d := d) (by omega)
  have L := lp_fx (fun i s => go gd_P0 d 88 12 [.ref 96, .int (Int32.ofNat p), .int (Int32.ofNat i)] [] s) (fun v s => some (.inl (some (.int v)), s)) (fun i s => TQ h s D (-1) (mN (dE D) (-1) i (dNow D))) (XQ h) (fun k => decide (pGain (mN (dE D) (-1) k (dNow D)) p < 0)) Int32.ofNat (-1) 100 0 h1 t1 ?_ ?_
  · obtain ⟨h2, e2, q2⟩ := L
    refine ⟨h2, ?_, q2⟩
    rw [r88, s88_0]
    simp (disch := first | omega | assumption) only [hg.1, x_r4 hg, x_t4 hg, hσ, h145, tA, rA8, tLw, rA9, rA0, tA1, lA1, rA1, tA2, lA2, rA2, tA3, lA3, rA3, tA4, lA4, rA4, tA5, lA5, rA5, tA6, lA6, rA6, tA7, lA7, rA7, tA8, tS, rS0, tS1, lS1, rS1, tS2, lS2, rS2, tS3, lS3, rS3, tS4, lS4, rS4, tS5, lS5, rS5, tS6, lS6, iB, iN, iG, iK, iR, cH, cF, cO, cA, cC, cT, cG, cM, cL, sp64 hg hσ hs hx (d := d) (by omega), s88_5, e68, s88_9, gT_wI, gR_wI, gL_wI, gS_wI, gU_wI, gI_wI, gJ_wI, gI_wJ, gJ_wJ, gR_wJ, gT_wJ, gL_wJ, gS_wJ, gU_wJ, gI_wR, gJ_wR, gR_wR, gT_wR, gL_wR, gS_wR, gU_wR, wI_wI, wJ_wJ, wR_wR, j_s, j_add, j_addL, j_addR, j_mulL, j_mulR, j_cl, j_clL, j_neg, j_negL, j_nn, j_lt, j_le, j_eq, j_ltL, j_ltR, j_leL, j_leR, j_eqL, j_eqR, j_m1, j_m1L, j_m1R, j_eqLL, j_ltLL, j_leLL, n_le0, n_le1, n_lt0, n_lt1, gc_v, gc_n, ↓reduceIte, and_true, true_and, and_self, or_self, or_false, false_or, not_false_eq_true, not_true_eq_false, false_and, and_false, Nat.reduceAdd, Nat.reduceEqDiff, Nat.reduceLeDiff, Nat.reduceLT]
    exact e2
  · intro i s i0 hi ht
    try dsimp only
    obtain ⟨qh, hi2, σ2, hs2, hx2, hl2⟩ := id ht
    have hg2 := hi2.1
    have hr2 := RI.mN hE (Or.inl rfl) hr i (by omega)
    refine ⟨fun hc => ⟨s, ?_, qh⟩, fun hc => ?_⟩
    · have c := Int32.not_le.mpr (of_decide_eq_true hc)
      rw [s88_12]
      simp (disch := first | omega | assumption) only [x_r4 hg2, x_t4 hg2, hg2.1, x_r2 hg2, x_t2 hg2, gT_wI, gR_wI, gL_wI, gS_wI, gU_wI, gI_wI, gJ_wI, gI_wJ, gJ_wJ, gR_wJ, gT_wJ, gL_wJ, gS_wJ, gU_wJ, gI_wR, gJ_wR, gR_wR, gT_wR, gL_wR, gS_wR, gU_wR, wI_wI, wJ_wJ, wR_wR, j_s, j_add, j_addL, j_addR, j_mulL, j_mulR, j_cl, j_clL, j_neg, j_negL, j_nn, j_lt, j_le, j_eq, j_ltL, j_ltR, j_leL, j_leR, j_eqL, j_eqR, j_m1, j_m1L, j_m1R, j_eqLL, j_ltLL, j_leLL, n_le0, n_le1, n_lt0, n_lt1, gc_v, gc_n, ↓reduceIte, and_true, true_and, and_self, or_self, or_false, false_or, not_false_eq_true, not_true_eq_false, false_and, and_false, Nat.reduceAdd, Nat.reduceEqDiff, Nat.reduceLeDiff, Nat.reduceLT, sp155 (d := d) (by omega) hs2 hx2 hr2, s88_26, c, gT_wI, gR_wI, gL_wI, gS_wI, gU_wI, gI_wI, gJ_wI, gI_wJ, gJ_wJ, gR_wJ, gT_wJ, gL_wJ, gS_wJ, gU_wJ, gI_wR, gJ_wR, gR_wR, gT_wR, gL_wR, gS_wR, gU_wR, wI_wI, wJ_wJ, wR_wR, j_s, j_add, j_addL, j_addR, j_mulL, j_mulR, j_cl, j_clL, j_neg, j_negL, j_nn, j_lt, j_le, j_eq, j_ltL, j_ltR, j_leL, j_leR, j_eqL, j_eqR, j_m1, j_m1L, j_m1R, j_eqLL, j_ltLL, j_leLL, n_le0, n_le1, n_lt0, n_lt1, gc_v, gc_n, ↓reduceIte, and_true, true_and, and_self, or_self, or_false, false_or, not_false_eq_true, not_true_eq_false, false_and, and_false, Nat.reduceAdd, Nat.reduceEqDiff, Nat.reduceLeDiff, Nat.reduceLT]
    · have c := Int32.not_lt.mp (of_decide_eq_false hc)
      obtain ⟨s', e152, t'⟩ := tq152 ht hE hr2 (by omega) (d := d) (by omega)
      refine ⟨s', ?_, t'⟩
      rw [s88_12]
      simp (disch := first | omega | assumption) only [x_r4 hg2, x_t4 hg2, hg2.1, x_r2 hg2, x_t2 hg2, gT_wI, gR_wI, gL_wI, gS_wI, gU_wI, gI_wI, gJ_wI, gI_wJ, gJ_wJ, gR_wJ, gT_wJ, gL_wJ, gS_wJ, gU_wJ, gI_wR, gJ_wR, gR_wR, gT_wR, gL_wR, gS_wR, gU_wR, wI_wI, wJ_wJ, wR_wR, j_s, j_add, j_addL, j_addR, j_mulL, j_mulR, j_cl, j_clL, j_neg, j_negL, j_nn, j_lt, j_le, j_eq, j_ltL, j_ltR, j_leL, j_leR, j_eqL, j_eqR, j_m1, j_m1L, j_m1R, j_eqLL, j_ltLL, j_leLL, n_le0, n_le1, n_lt0, n_lt1, gc_v, gc_n, ↓reduceIte, and_true, true_and, and_self, or_self, or_false, false_or, not_false_eq_true, not_true_eq_false, false_and, and_false, Nat.reduceAdd, Nat.reduceEqDiff, Nat.reduceLeDiff, Nat.reduceLT, sp155 (d := d) (by omega) hs2 hx2 hr2, s88_26, c, e152, s88_38, gT_wI, gR_wI, gL_wI, gS_wI, gU_wI, gI_wI, gJ_wI, gI_wJ, gJ_wJ, gR_wJ, gT_wJ, gL_wJ, gS_wJ, gU_wJ, gI_wR, gJ_wR, gR_wR, gT_wR, gL_wR, gS_wR, gU_wR, wI_wI, wJ_wJ, wR_wR, j_s, j_add, j_addL, j_addR, j_mulL, j_mulR, j_cl, j_clL, j_neg, j_negL, j_nn, j_lt, j_le, j_eq, j_ltL, j_ltR, j_leL, j_leR, j_eqL, j_eqR, j_m1, j_m1L, j_m1R, j_eqLL, j_ltLL, j_leLL, n_le0, n_le1, n_lt0, n_lt1, gc_v, gc_n, ↓reduceIte, and_true, true_and, and_self, or_self, or_false, false_or, not_false_eq_true, not_true_eq_false, false_and, and_false, Nat.reduceAdd, Nat.reduceEqDiff, Nat.reduceLeDiff, Nat.reduceLT]
  · intro s ht
    refine ⟨s, ?_, ht.1⟩
    try dsimp only
    rw [s88_12]
    simp (disch := first | omega | assumption) only [Nat.zero_add, gT_wI, gR_wI, gL_wI, gS_wI, gU_wI, gI_wI, gJ_wI, gI_wJ, gJ_wJ, gR_wJ, gT_wJ, gL_wJ, gS_wJ, gU_wJ, gI_wR, gJ_wR, gR_wR, gT_wR, gL_wR, gS_wR, gU_wR, wI_wI, wJ_wJ, wR_wR, j_s, j_add, j_addL, j_addR, j_mulL, j_mulR, j_cl, j_clL, j_neg, j_negL, j_nn, j_lt, j_le, j_eq, j_ltL, j_ltR, j_leL, j_leR, j_eqL, j_eqR, j_m1, j_m1L, j_m1R, j_eqLL, j_ltLL, j_leLL, n_le0, n_le1, n_lt0, n_lt1, gc_v, gc_n, ↓reduceIte, and_true, true_and, and_self, or_self, or_false, false_or, not_false_eq_true, not_true_eq_false, false_and, and_false, Nat.reduceAdd, Nat.reduceEqDiff, Nat.reduceLeDiff, Nat.reduceLT]
theorem x88a {D : gdD} {v : Int32} (hv : v < 0 ∨ Int32.ofNat (eN (dE D)) ≤ v) : XNo 88 [.int v] D 24 := by
  intro d h hd hi hD
  obtain ⟨a, σ, m, h145, hσ, hs, hx, hr, hm, hl, hE, ha, hT9⟩ := hi.nw hD
  have hg := hi.1
  have hz : 4 ≤ gS h := by have := hi.2.2.2.2.2.2.2.2.2.2; omega
  obtain ⟨d, rfl⟩ : ∃ e, d = e + 1 := ⟨d - 1, by omega⟩
  obtain ⟨⟨hA1, hA2, hS1⟩, ⟨tA, rA8, tLw, rA9⟩, ⟨rA0, tA1, lA1⟩, ⟨rA1, tA2, lA2⟩, ⟨rA2, tA3, lA3⟩, ⟨rA3, tA4, lA4⟩, ⟨rA4, tA5, lA5⟩, ⟨rA5, tA6, lA6⟩, ⟨rA6, tA7, lA7⟩, ⟨rA7, tA8⟩, tS, ⟨rS0, tS1, lS1⟩, ⟨rS1, tS2, lS2⟩, ⟨rS2, tS3, lS3⟩, ⟨rS3, tS4, lS4⟩, ⟨rS4, tS5, lS5⟩, ⟨rS5, tS6, lS6⟩⟩ := id hs
  obtain ⟨⟨hB, hN⟩, ⟨iB, iN⟩, iG, iK, iR, cH, cF, cO, cA, cC, cW, cT, cG, cM, cL⟩ := id hx
  rw [r88, s88_0]
  simp (disch := first | omega | assumption) only [hg.1, x_r4 hg, x_t4 hg, hσ, h145, tA, rA8, tLw, rA9, rA0, tA1, lA1, rA1, tA2, lA2, rA2, tA3, lA3, rA3, tA4, lA4, rA4, tA5, lA5, rA5, tA6, lA6, rA6, tA7, lA7, rA7, tA8, tS, rS0, tS1, lS1, rS1, tS2, lS2, rS2, tS3, lS3, rS3, tS4, lS4, rS4, tS5, lS5, rS5, tS6, lS6, iB, iN, iG, iK, iR, cH, cF, cO, cA, cC, cT, cG, cM, cL, sp64n hg hz hσ hs hx (d := d) (by omega) hv, gc_x, gx_n (k := 88) (pc := 2) (t := 24) rfl, gT_wI, gR_wI, gL_wI, gS_wI, gU_wI, gI_wI, gJ_wI, gI_wJ, gJ_wJ, gR_wJ, gT_wJ, gL_wJ, gS_wJ, gU_wJ, gI_wR, gJ_wR, gR_wR, gT_wR, gL_wR, gS_wR, gU_wR, wI_wI, wJ_wJ, wR_wR, j_s, j_add, j_addL, j_addR, j_mulL, j_mulR, j_cl, j_clL, j_neg, j_negL, j_nn, j_lt, j_le, j_eq, j_ltL, j_ltR, j_leL, j_leR, j_eqL, j_eqR, j_m1, j_m1L, j_m1R, j_eqLL, j_ltLL, j_leLL, n_le0, n_le1, n_lt0, n_lt1, gc_v, gc_n, ↓reduceIte, and_true, true_and, and_self, or_self, or_false, false_or, not_false_eq_true, not_true_eq_false, false_and, and_false, Nat.reduceAdd, Nat.reduceEqDiff, Nat.reduceLeDiff, Nat.reduceLT]
theorem x70 {D : gdD} {p n : Nat} (hp : p < eN (dE D)) (hn : n ≤ 99) : XOk 70 [.int (Int32.ofNat p), .int (Int32.ofNat n)] D (.int (vFeed D p n)) := by
  intro d h hd hi hD
  obtain ⟨a, σ, m, h145, hσ, hs, hx, hr, hm, hl, hE, ha, hT9⟩ := hi.nw hD
  have hg := hi.1
  have hz : 4 ≤ gS h := by have := hi.2.2.2.2.2.2.2.2.2.2; omega
  obtain ⟨d, rfl⟩ : ∃ e, d = e + 1 := ⟨d - 1, by omega⟩
  obtain ⟨⟨hA1, hA2, hS1⟩, ⟨tA, rA8, tLw, rA9⟩, ⟨rA0, tA1, lA1⟩, ⟨rA1, tA2, lA2⟩, ⟨rA2, tA3, lA3⟩, ⟨rA3, tA4, lA4⟩, ⟨rA4, tA5, lA5⟩, ⟨rA5, tA6, lA6⟩, ⟨rA6, tA7, lA7⟩, ⟨rA7, tA8⟩, tS, ⟨rS0, tS1, lS1⟩, ⟨rS1, tS2, lS2⟩, ⟨rS2, tS3, lS3⟩, ⟨rS3, tS4, lS4⟩, ⟨rS4, tS5, lS5⟩, ⟨rS5, tS6, lS6⟩⟩ := id hs
  obtain ⟨⟨hB, hN⟩, ⟨iB, iN⟩, iG, iK, iR, cH, cF, cO, cA, cC, cW, cT, cG, cM, cL⟩ := id hx
  have e53 := sp53 hg (d := d) (by omega) (v := Int32.ofNat n) (lo := 0) (hi := 99) (by rw [j_neg (by omega)]; exact fun z => z) (by rw [j_ltL (by omega) (by omega)]; omega)
  have L : ∃ s', go gd_P0 d 70 15 [.ref 96, .int (Int32.ofNat p), .int (Int32.ofNat n), .int 0, .null] [] h = some (.inl (some (.int (vFeed D p n))), s') ∧ XQ h s' := by
    unfold vFeed
    by_cases c0 : dNow D (14 + p) = -1
    · refine ⟨h, ?_, XQ.refl h⟩
      rw [if_pos c0, s70_15]
      simp (disch := first | omega | assumption) only [hg.1, x_r2 hg, x_t2 hg, x_r4 hg, x_t4 hg, hσ, h145, tA, rA8, tLw, rA9, rA0, tA1, lA1, rA1, tA2, lA2, rA2, tA3, lA3, rA3, tA4, lA4, rA4, tA5, lA5, rA5, tA6, lA6, rA6, tA7, lA7, rA7, tA8, tS, rS0, tS1, lS1, rS1, tS2, lS2, rS2, tS3, lS3, rS3, tS4, lS4, rS4, tS5, lS5, rS5, tS6, lS6, iB, iN, iG, iK, iR, cH, cF, cO, cA, cC, cT, cG, cM, cL, s70_28, c0, s70_93, gT_wI, gR_wI, gL_wI, gS_wI, gU_wI, gI_wI, gJ_wI, gI_wJ, gJ_wJ, gR_wJ, gT_wJ, gL_wJ, gS_wJ, gU_wJ, gI_wR, gJ_wR, gR_wR, gT_wR, gL_wR, gS_wR, gU_wR, wI_wI, wJ_wJ, wR_wR, j_s, j_add, j_addL, j_addR, j_mulL, j_mulR, j_cl, j_clL, j_neg, j_negL, j_nn, j_lt, j_le, j_eq, j_ltL, j_ltR, j_leL, j_leR, j_eqL, j_eqR, j_m1, j_m1L, j_m1R, j_eqLL, j_ltLL, j_leLL, n_le0, n_le1, n_lt0, n_lt1, gc_v, gc_n, ↓reduceIte, and_true, true_and, and_self, or_self, or_false, false_or, not_false_eq_true, not_true_eq_false, false_and, and_false, Nat.reduceAdd, Nat.reduceEqDiff, Nat.reduceLeDiff, Nat.reduceLT]
    · rw [if_neg c0]
      refine lp_fx (fun i s => go gd_P0 d 70 15 [.ref 96, .int (Int32.ofNat p), .int (Int32.ofNat n), .int (Int32.ofNat i), .null] [] s) (fun v s => some (.inl (some (.int v)), s)) (fun i s => XQ h s) (XQ h) (fun f => decide (0 ≤ pGain (mN (dE D) (-1) n (rw1 (dNow D) (7 + p) (Int32.ofNat f))) p)) Int32.ofNat (-1) 10 0 h (XQ.refl h) ?_ ?_
      · intro f s f0 hf qs
        try dsimp only
        have his := hi.q qs
        obtain ⟨h1, e68, t1⟩ := sp68 his hD (d := d) (by omega)
        obtain ⟨qh1, hi1, σ1, hs1, hx1, hl1⟩ := id t1
        have hg1 := hi1.1
        have t1' : TQ s (wI h1 (up1 (gI h1) (1196 + 3) p (Int32.ofNat f))) D (-1) (rw1 (dNow D) (7 + p) (Int32.ofNat f)) := t1.i (fun σ3 hs3 hx3 => hx3.wF (by omega) hs3.1.2.2 (by omega) _) (fun b hb => up1_nc _ _ _ (by omega))
        have hr1 : RI (dE D) m (rw1 (dNow D) (7 + p) (Int32.ofNat f)) := hr.rw (Or.inl (by omega))
        have L2 := lp_e (fun i s => go gd_P0 d 70 55 [.ref 96, .int (Int32.ofNat p), .int (Int32.ofNat n), .int (Int32.ofNat f), .int (Int32.ofNat i)] [] s) (fun i s2 => TQ s s2 D (-1) (mN (dE D) (-1) i (rw1 (dNow D) (7 + p) (Int32.ofNat f)))) n _ t1' ?_
        · obtain ⟨h2, e2, t2⟩ := L2
          obtain ⟨qh2, hi2, σ2, hs2, hx2, hl2⟩ := id t2
          have hg2 := hi2.1
          have hr2 := RI.mN hE (Or.inl rfl) hr1 n (by omega)
          have hgs := his.1
          obtain ⟨a3, σ3, m3, h145s, hσ3, hs3, hx3, -⟩ := his.nw hD
          obtain ⟨-, -, -, -, -, ⟨rA3', tA4', lA4'⟩, -⟩ := id hs3
          obtain ⟨-, -, -, -, -, -, -, cO', -⟩ := id hx3
          obtain ⟨-, ⟨tA1', -⟩, -, -, ⟨rA2', tA3', lA3'⟩, -⟩ := id hs1
          obtain ⟨-, ⟨tA3'', -⟩, -⟩ := id hs3
          have e15 : go gd_P0 d 70 15 [.ref 96, .int (Int32.ofNat p), .int (Int32.ofNat n), .int (Int32.ofNat f), .null] [] s = go gd_P0 d 70 82 [.ref 96, .int (Int32.ofNat p), .int (Int32.ofNat n), .int (Int32.ofNat f), .null] [.int (pGain (mN (dE D) (-1) n (rw1 (dNow D) (7 + p) (Int32.ofNat f))) p)] h2 := by
            rw [s70_15]
            simp (disch := first | omega | assumption) only [hgs.1, x_r2 hgs, x_t2 hgs, h145s, s70_28, tA3'', rA3', tA4', lA4', cO', c0, e68, s70_41, hg1.1, x_r4 hg1, x_t4 hg1, tA1', rA2', tA3', lA3', gT_wI, gR_wI, gL_wI, gS_wI, gU_wI, gI_wI, gJ_wI, gI_wJ, gJ_wJ, gR_wJ, gT_wJ, gL_wJ, gS_wJ, gU_wJ, gI_wR, gJ_wR, gR_wR, gT_wR, gL_wR, gS_wR, gU_wR, wI_wI, wJ_wJ, wR_wR, j_s, j_add, j_addL, j_addR, j_mulL, j_mulR, j_cl, j_clL, j_neg, j_negL, j_nn, j_lt, j_le, j_eq, j_ltL, j_ltR, j_leL, j_leR, j_eqL, j_eqR, j_m1, j_m1L, j_m1R, j_eqLL, j_ltLL, j_leLL, n_le0, n_le1, n_lt0, n_lt1, gc_v, gc_n, ↓reduceIte, and_true, true_and, and_self, or_self, or_false, false_or, not_false_eq_true, not_true_eq_false, false_and, and_false, Nat.reduceAdd, Nat.reduceEqDiff, Nat.reduceLeDiff, Nat.reduceLT]
            refine Eq.trans e2 ?_
            try dsimp only
            rw [s70_55]
            simp (disch := first | omega | assumption) only [x_r4 hg2, x_t4 hg2, hg2.1, x_r2 hg2, x_t2 hg2, gT_wI, gR_wI, gL_wI, gS_wI, gU_wI, gI_wI, gJ_wI, gI_wJ, gJ_wJ, gR_wJ, gT_wJ, gL_wJ, gS_wJ, gU_wJ, gI_wR, gJ_wR, gR_wR, gT_wR, gL_wR, gS_wR, gU_wR, wI_wI, wJ_wJ, wR_wR, j_s, j_add, j_addL, j_addR, j_mulL, j_mulR, j_cl, j_clL, j_neg, j_negL, j_nn, j_lt, j_le, j_eq, j_ltL, j_ltR, j_leL, j_leR, j_eqL, j_eqR, j_m1, j_m1L, j_m1R, j_eqLL, j_ltLL, j_leLL, n_le0, n_le1, n_lt0, n_lt1, gc_v, gc_n, ↓reduceIte, and_true, true_and, and_self, or_self, or_false, false_or, not_false_eq_true, not_true_eq_false, false_and, and_false, Nat.reduceAdd, Nat.reduceEqDiff, Nat.reduceLeDiff, Nat.reduceLT, sp155 (d := d) (by omega) hs2 hx2 hr2, gT_wI, gR_wI, gL_wI, gS_wI, gU_wI, gI_wI, gJ_wI, gI_wJ, gJ_wJ, gR_wJ, gT_wJ, gL_wJ, gS_wJ, gU_wJ, gI_wR, gJ_wR, gR_wR, gT_wR, gL_wR, gS_wR, gU_wR, wI_wI, wJ_wJ, wR_wR, j_s, j_add, j_addL, j_addR, j_mulL, j_mulR, j_cl, j_clL, j_neg, j_negL, j_nn, j_lt, j_le, j_eq, j_ltL, j_ltR, j_leL, j_leR, j_eqL, j_eqR, j_m1, j_m1L, j_m1R, j_eqLL, j_ltLL, j_leLL, n_le0, n_le1, n_lt0, n_lt1, gc_v, gc_n, ↓reduceIte, and_true, true_and, and_self, or_self, or_false, false_or, not_false_eq_true, not_true_eq_false, false_and, and_false, Nat.reduceAdd, Nat.reduceEqDiff, Nat.reduceLeDiff, Nat.reduceLT]
            exact (s70_82 ..).trans (s70_82 ..).symm
          refine ⟨fun hc => ⟨h2, ?_, qs.trans qh2⟩, fun hc => ⟨h2, ?_, qs.trans qh2⟩⟩
          · rw [e15, s70_82, if_neg (Int32.not_lt.mpr (of_decide_eq_true hc))]
          · rw [e15, s70_82, if_pos (Int32.not_le.mp (of_decide_eq_false hc)), j_s]
        · intro i hi3 s3 ht
          try dsimp only
          obtain ⟨qh2, hi2, σ2, hs2, hx2, hl2⟩ := id ht
          have hg2 := hi2.1
          obtain ⟨s', e152, t'⟩ := tq152 ht hE (RI.mN hE (Or.inl rfl) hr1 i (by omega)) (by omega) (d := d) (by omega)
          refine ⟨s', ?_, t'⟩
          rw [s70_55]
          simp (disch := first | omega | assumption) only [x_r4 hg2, x_t4 hg2, hg2.1, x_r2 hg2, x_t2 hg2, gT_wI, gR_wI, gL_wI, gS_wI, gU_wI, gI_wI, gJ_wI, gI_wJ, gJ_wJ, gR_wJ, gT_wJ, gL_wJ, gS_wJ, gU_wJ, gI_wR, gJ_wR, gR_wR, gT_wR, gL_wR, gS_wR, gU_wR, wI_wI, wJ_wJ, wR_wR, j_s, j_add, j_addL, j_addR, j_mulL, j_mulR, j_cl, j_clL, j_neg, j_negL, j_nn, j_lt, j_le, j_eq, j_ltL, j_ltR, j_leL, j_leR, j_eqL, j_eqR, j_m1, j_m1L, j_m1R, j_eqLL, j_ltLL, j_leLL, n_le0, n_le1, n_lt0, n_lt1, gc_v, gc_n, ↓reduceIte, and_true, true_and, and_self, or_self, or_false, false_or, not_false_eq_true, not_true_eq_false, false_and, and_false, Nat.reduceAdd, Nat.reduceEqDiff, Nat.reduceLeDiff, Nat.reduceLT, e152, s70_68]
      · intro s qs
        refine ⟨s, ?_, qs⟩
        try dsimp only
        rw [s70_15]
        simp (disch := first | omega | assumption) only [Nat.zero_add, s70_93, gT_wI, gR_wI, gL_wI, gS_wI, gU_wI, gI_wI, gJ_wI, gI_wJ, gJ_wJ, gR_wJ, gT_wJ, gL_wJ, gS_wJ, gU_wJ, gI_wR, gJ_wR, gR_wR, gT_wR, gL_wR, gS_wR, gU_wR, wI_wI, wJ_wJ, wR_wR, j_s, j_add, j_addL, j_addR, j_mulL, j_mulR, j_cl, j_clL, j_neg, j_negL, j_nn, j_lt, j_le, j_eq, j_ltL, j_ltR, j_leL, j_leR, j_eqL, j_eqR, j_m1, j_m1L, j_m1R, j_eqLL, j_ltLL, j_leLL, n_le0, n_le1, n_lt0, n_lt1, gc_v, gc_n, ↓reduceIte, and_true, true_and, and_self, or_self, or_false, false_or, not_false_eq_true, not_true_eq_false, false_and, and_false, Nat.reduceAdd, Nat.reduceEqDiff, Nat.reduceLeDiff, Nat.reduceLT]
  obtain ⟨s', e1, e2⟩ := L
  refine ⟨s', ?_, e2⟩
  rw [r70, s70_0]
  simp (disch := first | omega | assumption) only [hg.1, x_r2 hg, x_t2 hg, x_r4 hg, x_t4 hg, hσ, h145, tA, rA8, tLw, rA9, rA0, tA1, lA1, rA1, tA2, lA2, rA2, tA3, lA3, rA3, tA4, lA4, rA4, tA5, lA5, rA5, tA6, lA6, rA6, tA7, lA7, rA7, tA8, tS, rS0, tS1, lS1, rS1, tS2, lS2, rS2, tS3, lS3, rS3, tS4, lS4, rS4, tS5, lS5, rS5, tS6, lS6, iB, iN, iG, iK, iR, cH, cF, cO, cA, cC, cT, cG, cM, cL, sp64 hg hσ hs hx (d := d) (by omega), s70_5, e53, s70_13, gT_wI, gR_wI, gL_wI, gS_wI, gU_wI, gI_wI, gJ_wI, gI_wJ, gJ_wJ, gR_wJ, gT_wJ, gL_wJ, gS_wJ, gU_wJ, gI_wR, gJ_wR, gR_wR, gT_wR, gL_wR, gS_wR, gU_wR, wI_wI, wJ_wJ, wR_wR, j_s, j_add, j_addL, j_addR, j_mulL, j_mulR, j_cl, j_clL, j_neg, j_negL, j_nn, j_lt, j_le, j_eq, j_ltL, j_ltR, j_leL, j_leR, j_eqL, j_eqR, j_m1, j_m1L, j_m1R, j_eqLL, j_ltLL, j_leLL, n_le0, n_le1, n_lt0, n_lt1, gc_v, gc_n, ↓reduceIte, and_true, true_and, and_self, or_self, or_false, false_or, not_false_eq_true, not_true_eq_false, false_and, and_false, Nat.reduceAdd, Nat.reduceEqDiff, Nat.reduceLeDiff, Nat.reduceLT]
  exact e1
theorem x70a {D : gdD} {v v2 : Int32} (hv : v < 0 ∨ Int32.ofNat (eN (dE D)) ≤ v) : XNo 70 [.int v, .int v2] D 24 := by
  intro d h hd hi hD
  obtain ⟨a, σ, m, h145, hσ, hs, hx, hr, hm, hl, hE, ha, hT9⟩ := hi.nw hD
  have hg := hi.1
  have hz : 4 ≤ gS h := by have := hi.2.2.2.2.2.2.2.2.2.2; omega
  obtain ⟨d, rfl⟩ : ∃ e, d = e + 1 := ⟨d - 1, by omega⟩
  obtain ⟨⟨hA1, hA2, hS1⟩, ⟨tA, rA8, tLw, rA9⟩, ⟨rA0, tA1, lA1⟩, ⟨rA1, tA2, lA2⟩, ⟨rA2, tA3, lA3⟩, ⟨rA3, tA4, lA4⟩, ⟨rA4, tA5, lA5⟩, ⟨rA5, tA6, lA6⟩, ⟨rA6, tA7, lA7⟩, ⟨rA7, tA8⟩, tS, ⟨rS0, tS1, lS1⟩, ⟨rS1, tS2, lS2⟩, ⟨rS2, tS3, lS3⟩, ⟨rS3, tS4, lS4⟩, ⟨rS4, tS5, lS5⟩, ⟨rS5, tS6, lS6⟩⟩ := id hs
  obtain ⟨⟨hB, hN⟩, ⟨iB, iN⟩, iG, iK, iR, cH, cF, cO, cA, cC, cW, cT, cG, cM, cL⟩ := id hx
  rw [r70, s70_0]
  simp (disch := first | omega | assumption) only [hg.1, x_r2 hg, x_t2 hg, x_r4 hg, x_t4 hg, hσ, h145, tA, rA8, tLw, rA9, rA0, tA1, lA1, rA1, tA2, lA2, rA2, tA3, lA3, rA3, tA4, lA4, rA4, tA5, lA5, rA5, tA6, lA6, rA6, tA7, lA7, rA7, tA8, tS, rS0, tS1, lS1, rS1, tS2, lS2, rS2, tS3, lS3, rS3, tS4, lS4, rS4, tS5, lS5, rS5, tS6, lS6, iB, iN, iG, iK, iR, cH, cF, cO, cA, cC, cT, cG, cM, cL, sp64n hg hz hσ hs hx (d := d) (by omega) hv, gc_x, gx_n (k := 70) (pc := 2) (t := 24) rfl, gT_wI, gR_wI, gL_wI, gS_wI, gU_wI, gI_wI, gJ_wI, gI_wJ, gJ_wJ, gR_wJ, gT_wJ, gL_wJ, gS_wJ, gU_wJ, gI_wR, gJ_wR, gR_wR, gT_wR, gL_wR, gS_wR, gU_wR, wI_wI, wJ_wJ, wR_wR, j_s, j_add, j_addL, j_addR, j_mulL, j_mulR, j_cl, j_clL, j_neg, j_negL, j_nn, j_lt, j_le, j_eq, j_ltL, j_ltR, j_leL, j_leR, j_eqL, j_eqR, j_m1, j_m1L, j_m1R, j_eqLL, j_ltLL, j_leLL, n_le0, n_le1, n_lt0, n_lt1, gc_v, gc_n, ↓reduceIte, and_true, true_and, and_self, or_self, or_false, false_or, not_false_eq_true, not_true_eq_false, false_and, and_false, Nat.reduceAdd, Nat.reduceEqDiff, Nat.reduceLeDiff, Nat.reduceLT]
theorem x70b {D : gdD} {p : Nat} (hp : p < eN (dE D)) {v2 : Int32} (hv : v2 < 0 ∨ 99 < v2) : XNo 70 [.int (Int32.ofNat p), .int v2] D 25 := by
  intro d h hd hi hD
  obtain ⟨a, σ, m, h145, hσ, hs, hx, hr, hm, hl, hE, ha, hT9⟩ := hi.nw hD
  have hg := hi.1
  have hz : 4 ≤ gS h := by have := hi.2.2.2.2.2.2.2.2.2.2; omega
  obtain ⟨d, rfl⟩ : ∃ e, d = e + 1 := ⟨d - 1, by omega⟩
  obtain ⟨⟨hA1, hA2, hS1⟩, ⟨tA, rA8, tLw, rA9⟩, ⟨rA0, tA1, lA1⟩, ⟨rA1, tA2, lA2⟩, ⟨rA2, tA3, lA3⟩, ⟨rA3, tA4, lA4⟩, ⟨rA4, tA5, lA5⟩, ⟨rA5, tA6, lA6⟩, ⟨rA6, tA7, lA7⟩, ⟨rA7, tA8⟩, tS, ⟨rS0, tS1, lS1⟩, ⟨rS1, tS2, lS2⟩, ⟨rS2, tS3, lS3⟩, ⟨rS3, tS4, lS4⟩, ⟨rS4, tS5, lS5⟩, ⟨rS5, tS6, lS6⟩⟩ := id hs
  obtain ⟨⟨hB, hN⟩, ⟨iB, iN⟩, iG, iK, iR, cH, cF, cO, cA, cC, cW, cT, cG, cM, cL⟩ := id hx
  rw [r70, s70_0]
  simp (disch := first | omega | assumption) only [hg.1, x_r2 hg, x_t2 hg, x_r4 hg, x_t4 hg, hσ, h145, tA, rA8, tLw, rA9, rA0, tA1, lA1, rA1, tA2, lA2, rA2, tA3, lA3, rA3, tA4, lA4, rA4, tA5, lA5, rA5, tA6, lA6, rA6, tA7, lA7, rA7, tA8, tS, rS0, tS1, lS1, rS1, tS2, lS2, rS2, tS3, lS3, rS3, tS4, lS4, rS4, tS5, lS5, rS5, tS6, lS6, iB, iN, iG, iK, iR, cH, cF, cO, cA, cC, cT, cG, cM, cL, sp64 hg hσ hs hx (d := d) (by omega) hp, s70_5, sp53n hg hz (d := d) (by omega) hv, gc_x, gx_n (k := 70) (pc := 10) (t := 25) rfl, gT_wI, gR_wI, gL_wI, gS_wI, gU_wI, gI_wI, gJ_wI, gI_wJ, gJ_wJ, gR_wJ, gT_wJ, gL_wJ, gS_wJ, gU_wJ, gI_wR, gJ_wR, gR_wR, gT_wR, gL_wR, gS_wR, gU_wR, wI_wI, wJ_wJ, wR_wR, j_s, j_add, j_addL, j_addR, j_mulL, j_mulR, j_cl, j_clL, j_neg, j_negL, j_nn, j_lt, j_le, j_eq, j_ltL, j_ltR, j_leL, j_leR, j_eqL, j_eqR, j_m1, j_m1L, j_m1R, j_eqLL, j_ltLL, j_leLL, n_le0, n_le1, n_lt0, n_lt1, gc_v, gc_n, ↓reduceIte, and_true, true_and, and_self, or_self, or_false, false_or, not_false_eq_true, not_true_eq_false, false_and, and_false, Nat.reduceAdd, Nat.reduceEqDiff, Nat.reduceLeDiff, Nat.reduceLT]

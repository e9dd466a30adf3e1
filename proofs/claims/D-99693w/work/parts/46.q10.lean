/-! ===== SPAN ===== -/
set_option maxRecDepth 100000
def spR (D : gdD) (seed q : Int32) (mo i : Nat) : gdR := (pDec (dE D) q (dNow D) (seed + Int32.ofNat i) mo).1
def spD (D : gdD) (seed q : Int32) (mo i : Nat) : Int32 := pb (spR D seed q mo i) (eB (dE D))
/-- lowest door, highest, gains, of the first n seeds -/
def pSp (D : gdD) (seed q : Int32) (mo p : Nat) (n : Nat) : Int32 × Int32 × Int32 := fo (fun i x => (if i = 0 then spD D seed q mo i else jmin x.1 (spD D seed q mo i), jmax x.2.1 (spD D seed q mo i), if pGain (spR D seed q mo i) p ≤ 0 then x.2.2 else x.2.2 + 1)) n (0, 0, 0)
def vSpan (D : gdD) (seed q : Int32) (n mo w p : Nat) : Int32 := if w = 0 then (pSp D seed q mo p n).1 else if w = 1 then (pSp D seed q mo p n).2.1 else (pSp D seed q mo p n).2.2
theorem spD_n {D : gdD} (hD : DI D) (seed q : Int32) {mo : Nat} (hmo : mo ≤ 96) (i : Nat) : ∃ v, v ≤ 6000 ∧ spD D seed q mo i = Int32.ofNat v := by
  obtain ⟨m, hm, hr⟩ := hD.2.1 (dW D) (Nat.le_refl _)
  have hr2 := RI.pDec hD.1 q hr (seed + Int32.ofNat i) mo (by omega)
  obtain ⟨v, h1, h2⟩ := pb_n hr2.lt (eB (dE D)) hr2.1.1
  exact ⟨v, by have := hr2.1.1; omega, h2⟩
theorem pSp_n {D : gdD} (hD : DI D) (seed q : Int32) {mo : Nat} (hmo : mo ≤ 96) (p : Nat) : ∀ i, ∃ v, v ≤ 6000 ∧ (pSp D seed q mo p i).1 = Int32.ofNat v
  | 0 => ⟨0, by omega, rfl⟩
  | i + 1 => by
    obtain ⟨v, h1, h2⟩ := pSp_n hD seed q hmo p i
    obtain ⟨u, u1, u2⟩ := spD_n hD seed q hmo i
    show ∃ v, v ≤ 6000 ∧ (if i = 0 then spD D seed q mo i else jmin (pSp D seed q mo p i).1 (spD D seed q mo i)) = Int32.ofNat v
    split
    · exact ⟨u, u1, u2⟩
    · rw [h2, u2, jmin_n _ _ (by omega) (by omega)]
      exact ⟨_, by omega, rfl⟩
theorem x95 {D : gdD} {seed q : Int32} {n mo w p : Nat} (n1 : 1 ≤ n) (n2 : n ≤ 20) (h1 : ¬ q < 0) (h2 : ¬ 16 < q) (m1 : 1 ≤ mo) (m2 : mo ≤ 96) (hw : w ≤ 2) (hp : p < eN (dE D)) : XOk 95 [.int seed, .int (Int32.ofNat n), .int q, .int (Int32.ofNat mo), .int (Int32.ofNat w), .int (Int32.ofNat p)] D (.int (vSpan D seed q n mo w p)) := by
  intro d h hd hi hD
  obtain ⟨a, σ, m, h145, hσ, hs, hx, hr, hm, hl, hE, ha, hT9⟩ := hi.nw hD
  have hg := hi.1
  have hz : 4 ≤ gS h := by have := hi.2.2.2.2.2.2.2.2.2.2; omega
  obtain ⟨d, rfl⟩ : ∃ e, d = e + 1 := ⟨d - 1, by omega⟩
  obtain ⟨⟨hA1, hA2, hS1⟩, ⟨tA, rA8, tLw, rA9⟩, ⟨rA0, tA1, lA1⟩, ⟨rA1, tA2, lA2⟩, ⟨rA2, tA3, lA3⟩, ⟨rA3, tA4, lA4⟩, ⟨rA4, tA5, lA5⟩, ⟨rA5, tA6, lA6⟩, ⟨rA6, tA7, lA7⟩, ⟨rA7, tA8⟩, tS, ⟨rS0, tS1, lS1⟩, ⟨rS1, tS2, lS2⟩, ⟨rS2, tS3, lS3⟩, ⟨rS3, tS4, lS4⟩, ⟨rS4, tS5, lS5⟩, ⟨rS5, tS6, lS6⟩⟩ := id hs
  obtain ⟨⟨hB, hN⟩, ⟨iB, iN⟩, iG, iK, iR, cH, cF, cO, cA, cC, cW, cT, cG, cM, cL⟩ := id hx
  have eA := sp53 hg (d := d) (by omega) (v := Int32.ofNat n) (lo := 1) (hi := 20) (by rw [j_ltR (by omega) (by omega)]; omega) (by rw [j_ltL (by omega) (by omega)]; omega)
  have eB := sp92 hg (d := d) (by omega) (q := q) (mo := Int32.ofNat mo) h1 h2 (by rw [j_ltR (by omega) (by omega)]; omega) (by rw [j_ltL (by omega) (by omega)]; omega)
  have eC := sp53 hg (d := d) (by omega) (v := Int32.ofNat w) (lo := 0) (hi := 2) (by rw [j_neg (by omega)]; exact fun z => z) (by rw [j_ltL (by omega) (by omega)]; omega)
  have eN1 : Int32.ofNat (eN (dE D)) - 1 = Int32.ofNat (eN (dE D) - 1) := j_sub (n := 1) (show 1 ≤ eN (dE D) by omega)
  have eD := sp53 hg (d := d) (by omega) (v := Int32.ofNat p) (lo := 0) (hi := Int32.ofNat (eN (dE D) - 1)) (by rw [j_neg (by omega)]; exact fun z => z) (by rw [j_lt (by omega) (by omega)]; omega)
  have L := lp_e (fun i s => go gd_P0 d 95 51 [.ref 96, .int seed, .int (Int32.ofNat n), .int q, .int (Int32.ofNat mo), .int (Int32.ofNat w), .int (Int32.ofNat p), .int (pSp D seed q mo p i).1, .int (pSp D seed q mo p i).2.1, .int (pSp D seed q mo p i).2.2, .int (Int32.ofNat i), .null] [] s) (fun i s => XQ h s) n h (XQ.refl h) ?_
  · obtain ⟨h2, e2, q2⟩ := L
    refine ⟨h2, ?_, q2⟩
    rw [r95, s95_0]
    simp (disch := first | omega | assumption) only [hg.1, hσ, h145, tA, rA8, tLw, rA9, rA0, tA1, lA1, rA1, tA2, lA2, rA2, tA3, lA3, rA3, tA4, lA4, rA4, tA5, lA5, rA5, tA6, lA6, rA6, tA7, lA7, rA7, tA8, tS, rS0, tS1, lS1, rS1, tS2, lS2, rS2, tS3, lS3, rS3, tS4, lS4, rS4, tS5, lS5, rS5, tS6, lS6, iB, iN, iG, iK, iR, cH, cF, cO, cA, cC, cT, cG, cM, cL, eA, eB, eC, eN1, eD, s95_8, s95_15, s95_23, s95_39, gT_wI, gR_wI, gL_wI, gS_wI, gU_wI, gI_wI, gJ_wI, gI_wJ, gJ_wJ, gR_wJ, gT_wJ, gL_wJ, gS_wJ, gU_wJ, gI_wR, gJ_wR, gR_wR, gT_wR, gL_wR, gS_wR, gU_wR, wI_wI, wJ_wJ, wR_wR, j_s, j_add, j_addL, j_addR, j_mulL, j_mulR, j_cl, j_clL, j_neg, j_negL, j_nn, j_lt, j_le, j_eq, j_ltL, j_ltR, j_leL, j_leR, j_eqL, j_eqR, j_m1, j_m1L, j_m1R, j_eqLL, j_ltLL, j_leLL, n_le0, n_le1, n_lt0, n_lt1, gc_v, gc_n, ↓reduceIte, and_true, true_and, and_self, or_self, or_false, false_or, not_false_eq_true, not_true_eq_false, false_and, and_false, Nat.reduceAdd, Nat.reduceEqDiff, Nat.reduceLeDiff, Nat.reduceLT]
    refine Eq.trans e2 ?_
    try dsimp only
    rw [s95_51]
    unfold vSpan
    rcases c03 hw with rfl | rfl | rfl
    all_goals simp (disch := first | omega | assumption) only [s95_149, gT_wI, gR_wI, gL_wI, gS_wI, gU_wI, gI_wI, gJ_wI, gI_wJ, gJ_wJ, gR_wJ, gT_wJ, gL_wJ, gS_wJ, gU_wJ, gI_wR, gJ_wR, gR_wR, gT_wR, gL_wR, gS_wR, gU_wR, wI_wI, wJ_wJ, wR_wR, j_s, j_add, j_addL, j_addR, j_mulL, j_mulR, j_cl, j_clL, j_neg, j_negL, j_nn, j_lt, j_le, j_eq, j_ltL, j_ltR, j_leL, j_leR, j_eqL, j_eqR, j_m1, j_m1L, j_m1R, j_eqLL, j_ltLL, j_leLL, n_le0, n_le1, n_lt0, n_lt1, gc_v, gc_n, ↓reduceIte, and_true, true_and, and_self, or_self, or_false, false_or, not_false_eq_true, not_true_eq_false, false_and, and_false, Nat.reduceAdd, Nat.reduceEqDiff, Nat.reduceLeDiff, Nat.reduceLT]
  · intro i hi3 s qs
    try dsimp only
    have his := hi.q qs
    obtain ⟨h2, e93, t2⟩ := sp93 his hD (seed + Int32.ofNat i) q m2 (d := d) (by omega)
    obtain ⟨⟨qh, hi2, σ2, hs2, hx2, hl2⟩, t21, t22⟩ := id t2
    have hr2 := RI.pDec hE q hr (seed + Int32.ofNat i) mo (by omega)
    have e158 := sp158 (d := d) (by omega) hs2 hx2
    have e155 := sp155 (d := d) (by omega) hs2 hx2 hr2 p (by omega)
    refine ⟨h2, ?_, qs.trans qh⟩
    have hgs := his.1
    show _ = go gd_P0 d 95 51 [.ref 96, .int seed, .int (Int32.ofNat n), .int q, .int (Int32.ofNat mo), .int (Int32.ofNat w), .int (Int32.ofNat p), .int (if i = 0 then spD D seed q mo i else jmin (pSp D seed q mo p i).1 (spD D seed q mo i)), .int (jmax (pSp D seed q mo p i).2.1 (spD D seed q mo i)), .int (if pGain (spR D seed q mo i) p ≤ 0 then (pSp D seed q mo p i).2.2 else (pSp D seed q mo p i).2.2 + 1), .int (Int32.ofNat (i + 1)), .null] [] h2
    generalize (pSp D seed q mo p i).1 = lw
    generalize (pSp D seed q mo p i).2.1 = hi9
    generalize (pSp D seed q mo p i).2.2 = tm
    have e158' : run gd_P0 d 158 [.ref 1196] h2 = some (.inl (some (.int (spD D seed q mo i))), h2) := e158
    have e155' : run gd_P0 d 155 [.ref 1196, .int (Int32.ofNat p)] h2 = some (.inl (some (.int (pGain (spR D seed q mo i) p))), h2) := e155
    rw [s95_51]
    simp (disch := first | omega | assumption) only [hgs.1, e93, s95_68, gT_wI, gR_wI, gL_wI, gS_wI, gU_wI, gI_wI, gJ_wI, gI_wJ, gJ_wJ, gR_wJ, gT_wJ, gL_wJ, gS_wJ, gU_wJ, gI_wR, gJ_wR, gR_wR, gT_wR, gL_wR, gS_wR, gU_wR, wI_wI, wJ_wJ, wR_wR, j_s, j_add, j_addL, j_addR, j_mulL, j_mulR, j_cl, j_clL, j_neg, j_negL, j_nn, j_lt, j_le, j_eq, j_ltL, j_ltR, j_leL, j_leR, j_eqL, j_eqR, j_m1, j_m1L, j_m1R, j_eqLL, j_ltLL, j_leLL, n_le0, n_le1, n_lt0, n_lt1, gc_v, gc_n, ↓reduceIte, and_true, true_and, and_self, or_self, or_false, false_or, not_false_eq_true, not_true_eq_false, false_and, and_false, Nat.reduceAdd, Nat.reduceEqDiff, Nat.reduceLeDiff, Nat.reduceLT]
    by_cases c0 : i = 0
    · by_cases c1 : pGain (spR D seed q mo i) p ≤ 0
      · simp (disch := first | omega | assumption) only [eq_true c0, c1, hs2.2.1.1, e158', e155', s95_80, s95_93, s95_102, s95_105, s95_114, s95_120, gT_wI, gR_wI, gL_wI, gS_wI, gU_wI, gI_wI, gJ_wI, gI_wJ, gJ_wJ, gR_wJ, gT_wJ, gL_wJ, gS_wJ, gU_wJ, gI_wR, gJ_wR, gR_wR, gT_wR, gL_wR, gS_wR, gU_wR, wI_wI, wJ_wJ, wR_wR, j_s, j_add, j_addL, j_addR, j_mulL, j_mulR, j_cl, j_clL, j_neg, j_negL, j_nn, j_lt, j_le, j_eq, j_ltL, j_ltR, j_leL, j_leR, j_eqL, j_eqR, j_m1, j_m1L, j_m1R, j_eqLL, j_ltLL, j_leLL, n_le0, n_le1, n_lt0, n_lt1, gc_v, gc_n, ↓reduceIte, and_true, true_and, and_self, or_self, or_false, false_or, not_false_eq_true, not_true_eq_false, false_and, and_false, Nat.reduceAdd, Nat.reduceEqDiff, Nat.reduceLeDiff, Nat.reduceLT]
        rfl
      · simp (disch := first | omega | assumption) only [eq_true c0, c1, hs2.2.1.1, e158', e155', s95_80, s95_93, s95_102, s95_105, s95_114, s95_120, gT_wI, gR_wI, gL_wI, gS_wI, gU_wI, gI_wI, gJ_wI, gI_wJ, gJ_wJ, gR_wJ, gT_wJ, gL_wJ, gS_wJ, gU_wJ, gI_wR, gJ_wR, gR_wR, gT_wR, gL_wR, gS_wR, gU_wR, wI_wI, wJ_wJ, wR_wR, j_s, j_add, j_addL, j_addR, j_mulL, j_mulR, j_cl, j_clL, j_neg, j_negL, j_nn, j_lt, j_le, j_eq, j_ltL, j_ltR, j_leL, j_leR, j_eqL, j_eqR, j_m1, j_m1L, j_m1R, j_eqLL, j_ltLL, j_leLL, n_le0, n_le1, n_lt0, n_lt1, gc_v, gc_n, ↓reduceIte, and_true, true_and, and_self, or_self, or_false, false_or, not_false_eq_true, not_true_eq_false, false_and, and_false, Nat.reduceAdd, Nat.reduceEqDiff, Nat.reduceLeDiff, Nat.reduceLT]
        rfl
    · by_cases c1 : pGain (spR D seed q mo i) p ≤ 0
      · simp (disch := first | omega | assumption) only [c0, c1, hs2.2.1.1, e158', e155', s95_90, s95_93, s95_102, s95_105, s95_114, s95_120, gT_wI, gR_wI, gL_wI, gS_wI, gU_wI, gI_wI, gJ_wI, gI_wJ, gJ_wJ, gR_wJ, gT_wJ, gL_wJ, gS_wJ, gU_wJ, gI_wR, gJ_wR, gR_wR, gT_wR, gL_wR, gS_wR, gU_wR, wI_wI, wJ_wJ, wR_wR, j_s, j_add, j_addL, j_addR, j_mulL, j_mulR, j_cl, j_clL, j_neg, j_negL, j_nn, j_lt, j_le, j_eq, j_ltL, j_ltR, j_leL, j_leR, j_eqL, j_eqR, j_m1, j_m1L, j_m1R, j_eqLL, j_ltLL, j_leLL, n_le0, n_le1, n_lt0, n_lt1, gc_v, gc_n, ↓reduceIte, and_true, true_and, and_self, or_self, or_false, false_or, not_false_eq_true, not_true_eq_false, false_and, and_false, Nat.reduceAdd, Nat.reduceEqDiff, Nat.reduceLeDiff, Nat.reduceLT]
        rfl
      · simp (disch := first | omega | assumption) only [c0, c1, hs2.2.1.1, e158', e155', s95_90, s95_93, s95_102, s95_105, s95_114, s95_120, gT_wI, gR_wI, gL_wI, gS_wI, gU_wI, gI_wI, gJ_wI, gI_wJ, gJ_wJ, gR_wJ, gT_wJ, gL_wJ, gS_wJ, gU_wJ, gI_wR, gJ_wR, gR_wR, gT_wR, gL_wR, gS_wR, gU_wR, wI_wI, wJ_wJ, wR_wR, j_s, j_add, j_addL, j_addR, j_mulL, j_mulR, j_cl, j_clL, j_neg, j_negL, j_nn, j_lt, j_le, j_eq, j_ltL, j_ltR, j_leL, j_leR, j_eqL, j_eqR, j_m1, j_m1L, j_m1R, j_eqLL, j_ltLL, j_leLL, n_le0, n_le1, n_lt0, n_lt1, gc_v, gc_n, ↓reduceIte, and_true, true_and, and_self, or_self, or_false, false_or, not_false_eq_true, not_true_eq_false, false_and, and_false, Nat.reduceAdd, Nat.reduceEqDiff, Nat.reduceLeDiff, Nat.reduceLT]
        rfl
/-- a boy that is none -/
theorem nb_lt {n : Nat} (hn : n ≤ 7) {p : Int32} (h : p < 0 ∨ Int32.ofNat n ≤ p) : p < 0 ∨ Int32.ofNat n - 1 < p := by
  rcases h with h | h
  · exact Or.inl h
  · refine Or.inr ?_
    rw [Int32.lt_iff_toInt_lt, Int32.toInt_sub, j_ti (by omega), Int32.toInt_one, Int.bmod_eq_of_le (by omega) (by omega)]
    rw [Int32.le_iff_toInt_le, j_ti (by omega)] at h
    omega
theorem x95a {D : gdD} {seed n q mo w p : Int32} (hv : n < 1 ∨ 20 < n ∨ q < 0 ∨ 16 < q ∨ mo < 1 ∨ 96 < mo ∨ w < 0 ∨ 2 < w ∨ p < 0 ∨ Int32.ofNat (eN (dE D)) ≤ p) : XNo 95 [.int seed, .int n, .int q, .int mo, .int w, .int p] D 25 := by
  intro d h hd hi hD
  obtain ⟨a, σ, m, h145, hσ, hs, hx, hr, hm, hl, hE, ha, hT9⟩ := hi.nw hD
  have hg := hi.1
  have hz : 4 ≤ gS h := by have := hi.2.2.2.2.2.2.2.2.2.2; omega
  obtain ⟨d, rfl⟩ : ∃ e, d = e + 1 := ⟨d - 1, by omega⟩
  obtain ⟨⟨hA1, hA2, hS1⟩, ⟨tA, rA8, tLw, rA9⟩, ⟨rA0, tA1, lA1⟩, ⟨rA1, tA2, lA2⟩, ⟨rA2, tA3, lA3⟩, ⟨rA3, tA4, lA4⟩, ⟨rA4, tA5, lA5⟩, ⟨rA5, tA6, lA6⟩, ⟨rA6, tA7, lA7⟩, ⟨rA7, tA8⟩, tS, ⟨rS0, tS1, lS1⟩, ⟨rS1, tS2, lS2⟩, ⟨rS2, tS3, lS3⟩, ⟨rS3, tS4, lS4⟩, ⟨rS4, tS5, lS5⟩, ⟨rS5, tS6, lS6⟩⟩ := id hs
  obtain ⟨⟨hB, hN⟩, ⟨iB, iN⟩, iG, iK, iR, cH, cF, cO, cA, cC, cW, cT, cG, cM, cL⟩ := id hx
  rw [r95, s95_0]
  by_cases a1 : n < 1 ∨ 20 < n
  · simp only [hg.1, sp53n hg hz (d := d) (by omega) a1, gc_x, gx_n (k := 95) (pc := 5) (t := 25) rfl, ↓reduceIte]
  have b1 := sp53 hg (d := d) (by omega) (fun z => a1 (Or.inl z)) (fun z => a1 (Or.inr z))
  by_cases a2 : q < 0 ∨ 16 < q ∨ mo < 1 ∨ 96 < mo
  · simp only [hg.1, b1, sp92n hg hz (d := d) (by omega) a2, gc_n, s95_8, gc_x, gx_n (k := 95) (pc := 12) (t := 25) rfl, ↓reduceIte]
  have b2 := sp92 hg (d := d) (by omega) (q := q) (mo := mo) (fun z => a2 (Or.inl z)) (fun z => a2 (Or.inr (Or.inl z))) (fun z => a2 (Or.inr (Or.inr (Or.inl z)))) (fun z => a2 (Or.inr (Or.inr (Or.inr z))))
  by_cases a3 : w < 0 ∨ 2 < w
  · simp only [hg.1, b1, b2, sp53n hg hz (d := d) (by omega) a3, gc_n, s95_8, s95_15, gc_x, gx_n (k := 95) (pc := 20) (t := 25) rfl, ↓reduceIte]
  have b3 := sp53 hg (d := d) (by omega) (fun z => a3 (Or.inl z)) (fun z => a3 (Or.inr z))
  have a4 : p < 0 ∨ Int32.ofNat (eN (dE D)) - 1 < p := by
    refine nb_lt (by omega) ?_
    rcases hv with z | z | z | z | z | z | z | z | z
    · exact absurd (Or.inl z) a1
    · exact absurd (Or.inr z) a1
    · exact absurd (Or.inl z) a2
    · exact absurd (Or.inr (Or.inl z)) a2
    · exact absurd (Or.inr (Or.inr (Or.inl z))) a2
    · exact absurd (Or.inr (Or.inr (Or.inr z))) a2
    · exact absurd (Or.inl z) a3
    · exact absurd (Or.inr z) a3
    · exact z
  simp (disch := first | omega | assumption) only [hg.1, hσ, h145, tA, rA8, tLw, rA9, rA0, tA1, lA1, rA1, tA2, lA2, rA2, tA3, lA3, rA3, tA4, lA4, rA4, tA5, lA5, rA5, tA6, lA6, rA6, tA7, lA7, rA7, tA8, tS, rS0, tS1, lS1, rS1, tS2, lS2, rS2, tS3, lS3, rS3, tS4, lS4, rS4, tS5, lS5, rS5, tS6, lS6, iB, iN, iG, iK, iR, cH, cF, cO, cA, cC, cT, cG, cM, cL, b1, b2, b3, sp53n hg hz (d := d) (by omega) a4, gc_n, s95_8, s95_15, s95_23, gc_x, gx_n (k := 95) (pc := 36) (t := 25) rfl, gT_wI, gR_wI, gL_wI, gS_wI, gU_wI, gI_wI, gJ_wI, gI_wJ, gJ_wJ, gR_wJ, gT_wJ, gL_wJ, gS_wJ, gU_wJ, gI_wR, gJ_wR, gR_wR, gT_wR, gL_wR, gS_wR, gU_wR, wI_wI, wJ_wJ, wR_wR, j_s, j_add, j_addL, j_addR, j_mulL, j_mulR, j_cl, j_clL, j_neg, j_negL, j_nn, j_lt, j_le, j_eq, j_ltL, j_ltR, j_leL, j_leR, j_eqL, j_eqR, j_m1, j_m1L, j_m1R, j_eqLL, j_ltLL, j_leLL, n_le0, n_le1, n_lt0, n_lt1, gc_v, gc_n, ↓reduceIte, and_true, true_and, and_self, or_self, or_false, false_or, not_false_eq_true, not_true_eq_false, false_and, and_false, Nat.reduceAdd, Nat.reduceEqDiff, Nat.reduceLeDiff, Nat.reduceLT]
theorem m277 {D : gdD} {seed q : Int32} {n mo w p : Nat} (n1 : 1 ≤ n) (n2 : n ≤ 20) (h1 : ¬ q < 0) (h2 : ¬ 16 < q) (m1 : 1 ≤ mo) (m2 : mo ≤ 96) (hw : w ≤ 2) (hp : p < eN (dE D)) : MOk 277 [.int seed, .int (Int32.ofNat n), .int q, .int (Int32.ofNat mo), .int (Int32.ofNat w), .int (Int32.ofNat p)] D (.int (vSpan D seed q n mo w p)) := by
  intro d h hd hi hD
  obtain ⟨d, rfl⟩ : ∃ e, d = e + 1 := ⟨d - 1, by omega⟩
  obtain ⟨hz, ez, hiz, z0, tz⟩ := TM.z hi
  have hm := hi.1
  have hmz := hiz.1
  obtain ⟨m, hm4, hr⟩ := hD.2.1 (dW D) (Nat.le_refl _)
  have hE := hD.1
  have e183 := sp183 hmz z0 (d := d) (by omega) 1 1
  have hN7 : eN (dE D) ≤ 7 := hi.2.1.2
  have hB6 : eB (dE D) ≤ 6 := hi.2.1.1
  have t0 := tz _ hiz.mc0
  obtain ⟨-, -, ⟨iB0, iN0, -⟩, -⟩ := id hiz
  have eN1 : Int32.ofNat (eN (dE D)) - 1 = Int32.ofNat (eN (dE D) - 1) := j_sub (n := 1) (show 1 ≤ eN (dE D) by omega)
  have m3 : ¬ Int32.ofNat mo < 1 := by rw [j_ltR (by omega) (by omega)]; omega
  have m4 : ¬ (96 : Int32) < Int32.ofNat mo := by rw [j_ltL (by omega) (by omega)]; omega
  have e274 : run gd_P0 d 274 [.int q, .int (Int32.ofNat mo)] hz = some (.inl (some (.int 1)), hz) := by rw [sp274 (d := d) (by omega), if_neg h1, if_neg h2, if_neg m3, if_neg m4]
  have c1 : ¬ n < 1 := by omega
  have c2 : ¬ 20 < n := by omega
  have c3 : ¬ 2 < w := by omega
  have c4 : ¬ eN (dE D) - 1 < p := by omega
  have L := lp_e (fun i s => go gd_P0 d 277 77 [.ref 1231, .int seed, .int (Int32.ofNat n), .int q, .int (Int32.ofNat mo), .int (Int32.ofNat w), .int (Int32.ofNat p), .int (if i = 0 then -1 else (pSp D seed q mo p i).1), .int (pSp D seed q mo p i).2.1, .int (pSp D seed q mo p i).2.2, .int (Int32.ofNat i), .null] [] s) (fun i s => ∃ r, TM h s D (-1) r) n hz ⟨_, t0⟩ ?_
  · obtain ⟨h2, e2, r2, t2⟩ := L
    have q2 : MZ h h2 ∧ gI h2 1231 0 = 0 := by
      obtain ⟨I', rfl, a1, a2, a3, a4⟩ := t2
      exact TM.mz ⟨I', rfl, a1, a2, a3, a4⟩ hi
    refine ⟨h2, ?_, q2.1, q2.2⟩
    rw [r277, s277_0]
    simp only [hm.t, ez, ↓reduceIte]
    simp (disch := first | omega | assumption) only [sp233 (d := d) (by omega), hmz.t, e274, e183, iN0, eN1, s277_13, s277_22, s277_32, s277_47, s277_55, s277_60, i10, c1, c2, c3, c4, gT_wI, gR_wI, gL_wI, gS_wI, gU_wI, gI_wI, gJ_wI, gI_wJ, gJ_wJ, gR_wJ, gT_wJ, gL_wJ, gS_wJ, gU_wJ, gI_wR, gJ_wR, gR_wR, gT_wR, gL_wR, gS_wR, gU_wR, wI_wI, wJ_wJ, wR_wR, j_s, j_add, j_addL, j_addR, j_mulL, j_mulR, j_cl, j_clL, j_neg, j_negL, j_nn, j_lt, j_le, j_eq, j_ltL, j_ltR, j_leL, j_leR, j_eqL, j_eqR, j_m1, j_m1L, j_m1R, j_eqLL, j_ltLL, j_leLL, n_le0, n_le1, n_lt0, n_lt1, gc_v, gc_n, ↓reduceIte, and_true, true_and, and_self, or_self, or_false, false_or, not_false_eq_true, not_true_eq_false, false_and, and_false, Nat.reduceAdd, Nat.reduceEqDiff, Nat.reduceLeDiff, Nat.reduceLT]
    refine Eq.trans e2 ?_
    try dsimp only
    rw [s277_77]
    have n0 : ¬ n = 0 := by omega
    unfold vSpan
    rcases c03 hw with rfl | rfl | rfl
    all_goals simp (disch := first | omega | assumption) only [n0, s277_190, gT_wI, gR_wI, gL_wI, gS_wI, gU_wI, gI_wI, gJ_wI, gI_wJ, gJ_wJ, gR_wJ, gT_wJ, gL_wJ, gS_wJ, gU_wJ, gI_wR, gJ_wR, gR_wR, gT_wR, gL_wR, gS_wR, gU_wR, wI_wI, wJ_wJ, wR_wR, j_s, j_add, j_addL, j_addR, j_mulL, j_mulR, j_cl, j_clL, j_neg, j_negL, j_nn, j_lt, j_le, j_eq, j_ltL, j_ltR, j_leL, j_leR, j_eqL, j_eqR, j_m1, j_m1L, j_m1R, j_eqLL, j_ltLL, j_leLL, n_le0, n_le1, n_lt0, n_lt1, gc_v, gc_n, ↓reduceIte, and_true, true_and, and_self, or_self, or_false, false_or, not_false_eq_true, not_true_eq_false, false_and, and_false, Nat.reduceAdd, Nat.reduceEqDiff, Nat.reduceLeDiff, Nat.reduceLT]
  · intro i hi3 s ⟨r0, ts⟩
    try dsimp only
    obtain ⟨hms, -, -⟩ := ts.x hi
    obtain ⟨h2, e275, t2⟩ := sp275 hi hD ts (seed + Int32.ofNat i) q m2 (d := d) (by omega)
    obtain ⟨hm2, hx2, hl2⟩ := t2.1.x hi
    obtain ⟨-, ⟨iB, iN, iA⟩, -⟩ := id hx2
    have hr2 := RI.pDec hE q hr (seed + Int32.ofNat i) mo (by omega)
    have e216 := sp216 (d := d) (by omega) hm2 hx2 (eB (dE D)) hB6
    have e222 := sp222 (d := d) (by omega) hm2 hx2 hr2 p (by omega)
    refine ⟨h2, ?_, _, t2.1⟩
    rw [if_neg (Nat.succ_ne_zero i)]
    obtain ⟨lv, lv1, lv2⟩ := pSp_n hD seed q m2 p i
    show _ = go gd_P0 d 277 77 [.ref 1231, .int seed, .int (Int32.ofNat n), .int q, .int (Int32.ofNat mo), .int (Int32.ofNat w), .int (Int32.ofNat p), .int (if i = 0 then spD D seed q mo i else jmin (pSp D seed q mo p i).1 (spD D seed q mo i)), .int (jmax (pSp D seed q mo p i).2.1 (spD D seed q mo i)), .int (if pGain (spR D seed q mo i) p ≤ 0 then (pSp D seed q mo p i).2.2 else (pSp D seed q mo p i).2.2 + 1), .int (Int32.ofNat (i + 1)), .null] [] h2
    rw [lv2]
    generalize (pSp D seed q mo p i).2.1 = hi9
    generalize (pSp D seed q mo p i).2.2 = tm
    have e216' : run gd_P0 d 216 [.ref 1231, .int (Int32.ofNat (eB (dE D)))] h2 = some (.inl (some (.int (spD D seed q mo i))), h2) := e216
    have e222' : run gd_P0 d 222 [.ref 1231, .int (Int32.ofNat p)] h2 = some (.inl (some (.int (pGain (spR D seed q mo i) p))), h2) := e222
    have jm : ∀ a b : Int32, jmax a b = if b ≤ a then a else b := fun a b => by
      by_cases c : b ≤ a
      · rw [if_pos c, jmax_ge c]
      · rw [if_neg c, jmax_lt c]
    have fin : ∀ lw : Int32, go gd_P0 d 277 124 [.ref 1231, .int seed, .int (Int32.ofNat n), .int q, .int (Int32.ofNat mo), .int (Int32.ofNat w), .int (Int32.ofNat p), .null, .int hi9, .int tm, .int (Int32.ofNat i), .int (spD D seed q mo i)] [.int lw] h2 = go gd_P0 d 277 77 [.ref 1231, .int seed, .int (Int32.ofNat n), .int q, .int (Int32.ofNat mo), .int (Int32.ofNat w), .int (Int32.ofNat p), .int lw, .int (jmax hi9 (spD D seed q mo i)), .int (if pGain (spR D seed q mo i) p ≤ 0 then tm else tm + 1), .int (Int32.ofNat (i + 1)), .null] [] h2 := by
      intro lw
      rw [s277_124, jm]
      by_cases c5 : spD D seed q mo i ≤ hi9
      · by_cases c6 : pGain (spR D seed q mo i) p ≤ 0
        · simp (disch := first | omega | assumption) only [c5, c6, hm2.t, e222', s277_140, s277_150, s277_158, Int32.add_zero, gT_wI, gR_wI, gL_wI, gS_wI, gU_wI, gI_wI, gJ_wI, gI_wJ, gJ_wJ, gR_wJ, gT_wJ, gL_wJ, gS_wJ, gU_wJ, gI_wR, gJ_wR, gR_wR, gT_wR, gL_wR, gS_wR, gU_wR, wI_wI, wJ_wJ, wR_wR, j_s, j_add, j_addL, j_addR, j_mulL, j_mulR, j_cl, j_clL, j_neg, j_negL, j_nn, j_lt, j_le, j_eq, j_ltL, j_ltR, j_leL, j_leR, j_eqL, j_eqR, j_m1, j_m1L, j_m1R, j_eqLL, j_ltLL, j_leLL, n_le0, n_le1, n_lt0, n_lt1, gc_v, gc_n, ↓reduceIte, and_true, true_and, and_self, or_self, or_false, false_or, not_false_eq_true, not_true_eq_false, false_and, and_false, Nat.reduceAdd, Nat.reduceEqDiff, Nat.reduceLeDiff, Nat.reduceLT]
        · simp (disch := first | omega | assumption) only [c5, c6, hm2.t, e222', s277_140, s277_150, s277_158, gT_wI, gR_wI, gL_wI, gS_wI, gU_wI, gI_wI, gJ_wI, gI_wJ, gJ_wJ, gR_wJ, gT_wJ, gL_wJ, gS_wJ, gU_wJ, gI_wR, gJ_wR, gR_wR, gT_wR, gL_wR, gS_wR, gU_wR, wI_wI, wJ_wJ, wR_wR, j_s, j_add, j_addL, j_addR, j_mulL, j_mulR, j_cl, j_clL, j_neg, j_negL, j_nn, j_lt, j_le, j_eq, j_ltL, j_ltR, j_leL, j_leR, j_eqL, j_eqR, j_m1, j_m1L, j_m1R, j_eqLL, j_ltLL, j_leLL, n_le0, n_le1, n_lt0, n_lt1, gc_v, gc_n, ↓reduceIte, and_true, true_and, and_self, or_self, or_false, false_or, not_false_eq_true, not_true_eq_false, false_and, and_false, Nat.reduceAdd, Nat.reduceEqDiff, Nat.reduceLeDiff, Nat.reduceLT]
      · by_cases c6 : pGain (spR D seed q mo i) p ≤ 0
        · simp (disch := first | omega | assumption) only [c5, c6, hm2.t, e222', s277_140, s277_150, s277_158, Int32.add_zero, gT_wI, gR_wI, gL_wI, gS_wI, gU_wI, gI_wI, gJ_wI, gI_wJ, gJ_wJ, gR_wJ, gT_wJ, gL_wJ, gS_wJ, gU_wJ, gI_wR, gJ_wR, gR_wR, gT_wR, gL_wR, gS_wR, gU_wR, wI_wI, wJ_wJ, wR_wR, j_s, j_add, j_addL, j_addR, j_mulL, j_mulR, j_cl, j_clL, j_neg, j_negL, j_nn, j_lt, j_le, j_eq, j_ltL, j_ltR, j_leL, j_leR, j_eqL, j_eqR, j_m1, j_m1L, j_m1R, j_eqLL, j_ltLL, j_leLL, n_le0, n_le1, n_lt0, n_lt1, gc_v, gc_n, ↓reduceIte, and_true, true_and, and_self, or_self, or_false, false_or, not_false_eq_true, not_true_eq_false, false_and, and_false, Nat.reduceAdd, Nat.reduceEqDiff, Nat.reduceLeDiff, Nat.reduceLT]
        · simp (disch := first | omega | assumption) only [c5, c6, hm2.t, e222', s277_140, s277_150, s277_158, gT_wI, gR_wI, gL_wI, gS_wI, gU_wI, gI_wI, gJ_wI, gI_wJ, gJ_wJ, gR_wJ, gT_wJ, gL_wJ, gS_wJ, gU_wJ, gI_wR, gJ_wR, gR_wR, gT_wR, gL_wR, gS_wR, gU_wR, wI_wI, wJ_wJ, wR_wR, j_s, j_add, j_addL, j_addR, j_mulL, j_mulR, j_cl, j_clL, j_neg, j_negL, j_nn, j_lt, j_le, j_eq, j_ltL, j_ltR, j_leL, j_leR, j_eqL, j_eqR, j_m1, j_m1L, j_m1R, j_eqLL, j_ltLL, j_leLL, n_le0, n_le1, n_lt0, n_lt1, gc_v, gc_n, ↓reduceIte, and_true, true_and, and_self, or_self, or_false, false_or, not_false_eq_true, not_true_eq_false, false_and, and_false, Nat.reduceAdd, Nat.reduceEqDiff, Nat.reduceLeDiff, Nat.reduceLT]
    rw [s277_77]
    simp (disch := first | omega | assumption) only [hms.t, e275, s277_94, hm2.t, iB, e216', s277_102, gT_wI, gR_wI, gL_wI, gS_wI, gU_wI, gI_wI, gJ_wI, gI_wJ, gJ_wJ, gR_wJ, gT_wJ, gL_wJ, gS_wJ, gU_wJ, gI_wR, gJ_wR, gR_wR, gT_wR, gL_wR, gS_wR, gU_wR, wI_wI, wJ_wJ, wR_wR, j_s, j_add, j_addL, j_addR, j_mulL, j_mulR, j_cl, j_clL, j_neg, j_negL, j_nn, j_lt, j_le, j_eq, j_ltL, j_ltR, j_leL, j_leR, j_eqL, j_eqR, j_m1, j_m1L, j_m1R, j_eqLL, j_ltLL, j_leLL, n_le0, n_le1, n_lt0, n_lt1, gc_v, gc_n, ↓reduceIte, and_true, true_and, and_self, or_self, or_false, false_or, not_false_eq_true, not_true_eq_false, false_and, and_false, Nat.reduceAdd, Nat.reduceEqDiff, Nat.reduceLeDiff, Nat.reduceLT]
    by_cases c0 : i = 0
    · simp (disch := first | omega | assumption) only [c0, ↓reduceIte]
      rw [s277_117]
      simp only [c0] at fin
      exact fin _
    · have c7 : ¬ Int32.ofNat lv = -1 := by rw [j_m1 (by omega)]; exact fun z => z
      simp only [c0, c7, ↓reduceIte]
      by_cases c8 : Int32.ofNat lv ≤ spD D seed q mo i
      · rw [if_pos c8, show jmin (Int32.ofNat lv) (spD D seed q mo i) = Int32.ofNat lv from if_neg (Int32.not_lt.mpr c8)]
        refine Eq.trans ((s277_124 ..).trans (s277_124 ..).symm) (fin _)
      · rw [if_neg c8, show jmin (Int32.ofNat lv) (spD D seed q mo i) = spD D seed q mo i from if_pos (Int32.not_le.mp c8), s277_117]
        exact fin _
theorem m277a {D : gdD} {seed n q mo w p : Int32} (hv : n < 1 ∨ 20 < n ∨ q < 0 ∨ 16 < q ∨ mo < 1 ∨ 96 < mo ∨ w < 0 ∨ 2 < w ∨ p < 0 ∨ Int32.ofNat (eN (dE D)) ≤ p) : MNo 277 [.int seed, .int n, .int q, .int mo, .int w, .int p] D 25 1 (.int 0) := by
  intro d h hd hi hD
  obtain ⟨d, rfl⟩ : ∃ e, d = e + 1 := ⟨d - 1, by omega⟩
  obtain ⟨hz, ez, hiz, z0, qz⟩ := hi.z
  have hm := hi.1
  have hmz := hiz.1
  have e183 := sp183n hmz z0 (d := d) (by omega) (c := 1) (by decide) 25 (by omega) (by omega)
  have hN7 : eN (dE D) ≤ 7 := hi.2.1.2
  obtain ⟨-, -, ⟨iB0, iN0, -⟩, -⟩ := id hiz
  have fin : go gd_P0 d 277 54 [.ref 1231, .int seed, .int n, .int q, .int mo, .int w, .int p, .null, .null, .null, .null, .null] [.ref 1231] hz = some (.inl (some (.int 0)), mthr 25 1 h) := by
    rw [s277_54, s277_55]
    simp only [hmz.t, ↓reduceIte]
    refine Eq.trans (congrArg (gc gd_P0 d 277 _ _ _ _) e183) ?_
    rw [gc_v, s277_60, if_pos rfl]
    subst ez
    rw [mthr_z]
  rw [r277, s277_0]
  simp only [hm.t, ez, sp233 (d := d) (by omega), ↓reduceIte, gc_v, s277_13]
  by_cases a1 : n < 1
  · simp only [a1, ↓reduceIte]; exact fin
  by_cases a2 : 20 < n
  · simp only [a1, a2, ↓reduceIte]; exact fin
  simp only [a1, a2, i10, ↓reduceIte, hmz.t, sp274 (d := d) (by omega), gc_v, s277_22]
  by_cases a3 : q < 0
  · simp only [a3, ↓reduceIte]; exact fin
  by_cases a4 : 16 < q
  · simp only [a3, a4, ↓reduceIte]; exact fin
  by_cases a5 : mo < 1
  · simp only [a3, a4, a5, ↓reduceIte]; exact fin
  by_cases a6 : 96 < mo
  · simp only [a3, a4, a5, a6, ↓reduceIte]; exact fin
  simp only [a3, a4, a5, a6, i10, ↓reduceIte, hmz.t, sp233 (d := d) (by omega), gc_v, s277_32]
  by_cases a7 : w < 0
  · simp only [a7, ↓reduceIte]; exact fin
  by_cases a8 : 2 < w
  · simp only [a7, a8, ↓reduceIte]; exact fin
  simp only [a7, a8, i10, ↓reduceIte, hmz.t, iN0, sp233 (d := d) (by omega), gc_v, s277_47]
  have a9 : p < 0 ∨ Int32.ofNat (eN (dE D)) - 1 < p := nb_lt hN7 ((((((((hv.resolve_left a1).resolve_left a2).resolve_left a3).resolve_left a4).resolve_left a5).resolve_left a6).resolve_left a7).resolve_left a8)
  by_cases a10 : p < 0
  · simp only [a10, ↓reduceIte]; exact fin
  have a11 := a9.resolve_left a10
  simp only [a10, a11, ↓reduceIte]; exact fin

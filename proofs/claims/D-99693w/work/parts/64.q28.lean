/-! ===== run: the model ===== -/
set_option maxRecDepth 100000
theorem wt0 {v hi : Nat} (h : v ≤ hi) (hh : hi < 2147483648) : (if Int32.ofNat v < 0 then (0 : Int32) else if Int32.ofNat hi < Int32.ofNat v then 0 else 1) = 1 := by
  rw [if_neg (by rw [j_neg (by omega)]; exact fun z => z), if_neg (by rw [j_lt (by omega) (by omega)]; omega)]
theorem m261 {D : gdD} {n k p w : Nat} (hn : n ≤ 12) (hk : k ≤ 12) (hp : p ≤ 16) (hw : w ≤ 1) : MOk 261 [.int (Int32.ofNat n), .int (Int32.ofNat k), .int (Int32.ofNat p), .int (Int32.ofNat w)] D (.long (vRun n k p (Int32.ofNat w))) := by
  intro d h hd hi hD
  obtain ⟨d, rfl⟩ : ∃ e, d = e + 1 := ⟨d - 1, by omega⟩
  obtain ⟨hz, ez, hiz, z0, qz⟩ := hi.z
  have hm := hi.1
  have hmz := hiz.1
  have e183 := sp183 hmz z0 (d := d) (by omega) 1 1
  have w1 : (if Int32.ofNat n < 0 then (0 : Int32) else if 12 < Int32.ofNat n then 0 else 1) = 1 := wt0 (hi := 12) hn (by omega)
  have w2 : (if Int32.ofNat k < 0 then (0 : Int32) else if 12 < Int32.ofNat k then 0 else 1) = 1 := wt0 (hi := 12) hk (by omega)
  have w3 : (if Int32.ofNat p < 0 then (0 : Int32) else if 16 < Int32.ofNat p then 0 else 1) = 1 := wt0 (hi := 16) hp (by omega)
  have w4 : (if Int32.ofNat w < 0 then (0 : Int32) else if 1 < Int32.ofNat w then 0 else 1) = 1 := wt0 (hi := 1) hw (by omega)
  have c16 : Int32.toInt64 (16 - Int32.ofNat p) = Int64.ofNat (16 - p) := by
    rw [show (16 : Int32) = Int32.ofNat 16 from rfl, j_sub hp, k_32 _ (by omega)]
  have c3 : Int32.toInt64 (Int32.ofNat p) = Int64.ofNat p := k_32 _ (by omega)
  have A := lp_e (fun i J => go gd_P0 d 261 64 [.ref 1231, .int (Int32.ofNat n), .int (Int32.ofNat k), .int (Int32.ofNat p), .int (Int32.ofNat w), .int (Int32.ofNat i), .null, .null, .null, .null, .null] [] (wJ hz J)) (fun i J => (∀ b, b ≠ 1262 → J b = gJ hz b) ∧ ∀ j, j < i → J 1262 j = Int64.ofNat (if j = 0 then 1 else 0)) 14 (gJ hz) ⟨fun _ _ => rfl, fun j hj => absurd hj (Nat.not_lt_zero j)⟩ ?_
  · obtain ⟨J, ea, j1, j2⟩ := A
    have st : ∀ r, go gd_P0 d 261 100 [.ref 1231, .int (Int32.ofNat n), .int (Int32.ofNat k), .int (Int32.ofNat p), .int (Int32.ofNat w), .long (Int64.ofNat 1), .null, .int (Int32.ofNat 0), .null, .null, .null] [] (wJ hz J) = r → run gd_P0 (d + 1) 261 [.ref 1231, .int (Int32.ofNat n), .int (Int32.ofNat k), .int (Int32.ofNat p), .int (Int32.ofNat w)] h = r := by
      intro r hr
      rw [r261, s261_0]
      simp only [hm.t, ez, sp233 (d := d) (by omega), w1, ↓reduceIte]
      simp (disch := first | omega | assumption) only [hmz.t, i10, sp233 (d := d) (by omega), w2, w3, w4, s261_13, s261_23, s261_33, s261_43, s261_51, e183, s261_56, gT_wI, gR_wI, gL_wI, gS_wI, gU_wI, gI_wI, gJ_wI, gI_wJ, gJ_wJ, gR_wJ, gT_wJ, gL_wJ, gS_wJ, gU_wJ, gI_wR, gJ_wR, gR_wR, gT_wR, gL_wR, gS_wR, gU_wR, wI_wI, wJ_wJ, wR_wR, j_s, j_add, j_addL, j_addR, j_mulL, j_mulR, j_cl, j_clL, j_neg, j_negL, j_nn, j_lt, j_le, j_eq, j_ltL, j_ltR, j_leL, j_leR, j_eqL, j_eqR, j_m1, j_m1L, j_m1R, j_eqLL, j_ltLL, j_leLL, n_le0, n_le1, n_lt0, n_lt1, gc_v, gc_n, ↓reduceIte, and_true, true_and, and_self, or_self, or_false, false_or, not_false_eq_true, not_true_eq_false, false_and, and_false, Nat.reduceAdd, Nat.reduceEqDiff, Nat.reduceLeDiff, Nat.reduceLT]
      refine Eq.trans ea ?_
      try dsimp only
      rw [s261_64, if_pos (by decide)]
      exact hr
    by_cases k0 : k = 0
    · subst k0
      refine ⟨wJ hz J, st _ ?_, qz.trans ⟨gI hz, J, rfl, fun _ _ => rfl, fun _ _ => rfl, j1⟩, z0⟩
      have v0 := j2 0 (by omega)
      have e262 := sp262 (h := wJ hz J) (d := d) (by omega) (n := 1) (m := 1) (Int32.ofNat w) (by omega) (by omega) (by omega)
      rw [vRun_p, ← vRun_0 n hn]
      rw [s261_100]
      rw [if_pos rfl] at v0
      by_cases c : n ≤ 0
      · simp (disch := first | omega | assumption) only [hmz.t, m_r52 hmz, m_t52 hmz, m_l52 hmz, c, s261_231, v0, e262, s261_244, gT_wI, gR_wI, gL_wI, gS_wI, gU_wI, gI_wI, gJ_wI, gI_wJ, gJ_wJ, gR_wJ, gT_wJ, gL_wJ, gS_wJ, gU_wJ, gI_wR, gJ_wR, gR_wR, gT_wR, gL_wR, gS_wR, gU_wR, wI_wI, wJ_wJ, wR_wR, j_s, j_add, j_addL, j_addR, j_mulL, j_mulR, j_cl, j_clL, j_neg, j_negL, j_nn, j_lt, j_le, j_eq, j_ltL, j_ltR, j_leL, j_leR, j_eqL, j_eqR, j_m1, j_m1L, j_m1R, j_eqLL, j_ltLL, j_leLL, n_le0, n_le1, n_lt0, n_lt1, gc_v, gc_n, ↓reduceIte, and_true, true_and, and_self, or_self, or_false, false_or, not_false_eq_true, not_true_eq_false, false_and, and_false, Nat.reduceAdd, Nat.reduceEqDiff, Nat.reduceLeDiff, Nat.reduceLT]
      · simp (disch := first | omega | assumption) only [hmz.t, m_r52 hmz, m_t52 hmz, m_l52 hmz, c, s261_231, v0, e262, s261_244, gT_wI, gR_wI, gL_wI, gS_wI, gU_wI, gI_wI, gJ_wI, gI_wJ, gJ_wJ, gR_wJ, gT_wJ, gL_wJ, gS_wJ, gU_wJ, gI_wR, gJ_wR, gR_wR, gT_wR, gL_wR, gS_wR, gU_wR, wI_wI, wJ_wJ, wR_wR, j_s, j_add, j_addL, j_addR, j_mulL, j_mulR, j_cl, j_clL, j_neg, j_negL, j_nn, j_lt, j_le, j_eq, j_ltL, j_ltR, j_leL, j_leR, j_eqL, j_eqR, j_m1, j_m1L, j_m1R, j_eqLL, j_ltLL, j_leLL, n_le0, n_le1, n_lt0, n_lt1, gc_v, gc_n, ↓reduceIte, and_true, true_and, and_self, or_self, or_false, false_or, not_false_eq_true, not_true_eq_false, false_and, and_false, Nat.reduceAdd, Nat.reduceEqDiff, Nat.reduceLeDiff, Nat.reduceLT]
    · have B := lp_e (fun i J => go gd_P0 d 261 100 [.ref 1231, .int (Int32.ofNat n), .int (Int32.ofNat k), .int (Int32.ofNat p), .int (Int32.ofNat w), .long (Int64.ofNat (16 ^ i)), .null, .int (Int32.ofNat i), .null, .null, .null] [] (wJ hz J)) (fun i J => (∀ b, b ≠ 1262 → J b = gJ hz b) ∧ (∀ j, j < k → J 1262 j = Int64.ofNat (rS k p i j)) ∧ J 1262 k = Int64.ofNat (rK k p i)) n J ⟨j1, fun j hj => j2 j (by omega), by rw [j2 k (by omega), if_neg k0]; rfl⟩ ?_
      · obtain ⟨K, eb, q1, q2, q3⟩ := B
        refine ⟨wJ hz K, st _ (eb.trans ?_), qz.trans ⟨gI hz, K, rfl, fun _ _ => rfl, fun _ _ => rfl, q1⟩, z0⟩
        try dsimp only
        have rb := rS_b (k := k) (p := p) (j := 0) (by omega) hp hn (by omega)
        have b16 : 16 ^ n ≤ 16 ^ 12 := Nat.pow_le_pow_right (by omega) hn
        have g16 : 1 ≤ 16 ^ n := Nat.one_le_pow _ _ (by omega)
        have e262 := sp262 (h := wJ hz K) (d := d) (by omega) (n := rK k p n) (m := 16 ^ n) (Int32.ofNat w) (by omega) (by omega) (by omega)
        rw [vRun_m (by omega) hp] at e262
        rw [s261_100]
        simp (disch := first | omega | assumption) only [hmz.t, m_r52 hmz, m_t52 hmz, m_l52 hmz, Nat.le_refl, s261_231, q3, e262, s261_244, gT_wI, gR_wI, gL_wI, gS_wI, gU_wI, gI_wI, gJ_wI, gI_wJ, gJ_wJ, gR_wJ, gT_wJ, gL_wJ, gS_wJ, gU_wJ, gI_wR, gJ_wR, gR_wR, gT_wR, gL_wR, gS_wR, gU_wR, wI_wI, wJ_wJ, wR_wR, j_s, j_add, j_addL, j_addR, j_mulL, j_mulR, j_cl, j_clL, j_neg, j_negL, j_nn, j_lt, j_le, j_eq, j_ltL, j_ltR, j_leL, j_leR, j_eqL, j_eqR, j_m1, j_m1L, j_m1R, j_eqLL, j_ltLL, j_leLL, n_le0, n_le1, n_lt0, n_lt1, gc_v, gc_n, ↓reduceIte, and_true, true_and, and_self, or_self, or_false, false_or, not_false_eq_true, not_true_eq_false, false_and, and_false, Nat.reduceAdd, Nat.reduceEqDiff, Nat.reduceLeDiff, Nat.reduceLT]
      · intro i hi J ⟨j1, j2, j3⟩
        try dsimp only
        have ni : ¬ n ≤ i := by omega
        have nk : ¬ k ≤ 0 := by omega
        have C := lp_f (fun t x => go gd_P0 d 261 116 [.ref 1231, .int (Int32.ofNat n), .int (Int32.ofNat k), .int (Int32.ofNat p), .int (Int32.ofNat w), .long (Int64.ofNat (16 ^ i)), .null, .int (Int32.ofNat i), .long (Int64.ofNat x), .null, .int (Int32.ofNat t)] [] (wJ hz J)) (fun t x => x + rS k p i t * (16 - p)) k 0 ?_
        · rw [rT_c] at C
          have ek1 : Int32.ofNat k - 1 = Int32.ofNat (k - 1) := j_sub (m := k) (n := 1) (by omega)
          have vk1 := j2 (k - 1) (by omega)
          have o16 : (16 : Int64) = Int64.ofNat 16 := rfl
          have L := lp_e (fun t K => go gd_P0 d 261 179 [.ref 1231, .int (Int32.ofNat n), .int (Int32.ofNat k), .int (Int32.ofNat p), .int (Int32.ofNat w), .long (Int64.ofNat (16 ^ i)), .null, .int (Int32.ofNat i), .long (Int64.ofNat (rT (rS k p i) k * (16 - p))), .null, .int (Int32.ofNat (k - 1 - t))] [] (wJ hz K)) (fun t K => (∀ b, b ≠ 1262 → K b = gJ hz b) ∧ (∀ j, j < k → K 1262 j = Int64.ofNat (if k - 1 - t < j then rS k p (i + 1) j else rS k p i j)) ∧ K 1262 k = Int64.ofNat (rK k p (i + 1))) (k - 1) (up1 J 1262 k (Int64.ofNat (16 * rK k p i + rS k p i (k - 1) * p))) ⟨fun b hb => by rw [up1_nc _ _ _ hb]; exact j1 b hb, fun j hj => by rw [up1_nj _ _ (by omega), if_neg (by omega)]; exact j2 j hj, up1_eq _ _ _ _⟩ ?_
          · obtain ⟨K, e5, q1, q2, q3⟩ := L
            refine ⟨up1 K 1262 0 (Int64.ofNat (rT (rS k p i) k * (16 - p))), ?_, fun b hb => by rw [up1_nc _ _ _ hb]; exact q1 b hb, fun j hj => ?_, by rw [up1_nj _ _ (by omega)]; exact q3⟩
            · have s0 : go gd_P0 d 261 100 [.ref 1231, .int (Int32.ofNat n), .int (Int32.ofNat k), .int (Int32.ofNat p), .int (Int32.ofNat w), .long (Int64.ofNat (16 ^ i)), .null, .int (Int32.ofNat i), .null, .null, .null] [] (wJ hz J) = go gd_P0 d 261 179 [.ref 1231, .int (Int32.ofNat n), .int (Int32.ofNat k), .int (Int32.ofNat p), .int (Int32.ofNat w), .long (Int64.ofNat (16 ^ i)), .null, .int (Int32.ofNat i), .long (Int64.ofNat (rT (rS k p i) k * (16 - p))), .null, .int (Int32.ofNat (k - 1 - 0))] [] (wJ hz (up1 J 1262 k (Int64.ofNat (16 * rK k p i + rS k p i (k - 1) * p)))) := by
                rw [s261_100]
                simp (disch := first | omega | assumption) only [ni, nk, gT_wI, gR_wI, gL_wI, gS_wI, gU_wI, gI_wI, gJ_wI, gI_wJ, gJ_wJ, gR_wJ, gT_wJ, gL_wJ, gS_wJ, gU_wJ, gI_wR, gJ_wR, gR_wR, gT_wR, gL_wR, gS_wR, gU_wR, wI_wI, wJ_wJ, wR_wR, j_s, j_add, j_addL, j_addR, j_mulL, j_mulR, j_cl, j_clL, j_neg, j_negL, j_nn, j_lt, j_le, j_eq, j_ltL, j_ltR, j_leL, j_leR, j_eqL, j_eqR, j_m1, j_m1L, j_m1R, j_eqLL, j_ltLL, j_leLL, n_le0, n_le1, n_lt0, n_lt1, gc_v, gc_n, ↓reduceIte, and_true, true_and, and_self, or_self, or_false, false_or, not_false_eq_true, not_true_eq_false, false_and, and_false, Nat.reduceAdd, Nat.reduceEqDiff, Nat.reduceLeDiff, Nat.reduceLT]
                refine Eq.trans C ?_
                try dsimp only
                rw [s261_116]
                simp (disch := first | omega | assumption) only [hmz.t, m_r52 hmz, m_t52 hmz, m_l52 hmz, Nat.le_refl, ek1, j3, vk1, c3, o16, k_mul, k_add, Nat.sub_zero, gT_wI, gR_wI, gL_wI, gS_wI, gU_wI, gI_wI, gJ_wI, gI_wJ, gJ_wJ, gR_wJ, gT_wJ, gL_wJ, gS_wJ, gU_wJ, gI_wR, gJ_wR, gR_wR, gT_wR, gL_wR, gS_wR, gU_wR, wI_wI, wJ_wJ, wR_wR, j_s, j_add, j_addL, j_addR, j_mulL, j_mulR, j_cl, j_clL, j_neg, j_negL, j_nn, j_lt, j_le, j_eq, j_ltL, j_ltR, j_leL, j_leR, j_eqL, j_eqR, j_m1, j_m1L, j_m1R, j_eqLL, j_ltLL, j_leLL, n_le0, n_le1, n_lt0, n_lt1, gc_v, gc_n, ↓reduceIte, and_true, true_and, and_self, or_self, or_false, false_or, not_false_eq_true, not_true_eq_false, false_and, and_false, Nat.reduceAdd, Nat.reduceEqDiff, Nat.reduceLeDiff, Nat.reduceLT]
              have o16' : Int64.ofNat (16 ^ i) * 16 = Int64.ofNat (16 ^ (i + 1)) := k_mul (16 ^ i) 16
              rw [s0, e5]
              try dsimp only
              rw [Nat.sub_self, s261_179, if_pos (by decide)]
              simp (disch := first | omega | assumption) only [hmz.t, m_r52 hmz, m_t52 hmz, m_l52 hmz, o16', gT_wI, gR_wI, gL_wI, gS_wI, gU_wI, gI_wI, gJ_wI, gI_wJ, gJ_wJ, gR_wJ, gT_wJ, gL_wJ, gS_wJ, gU_wJ, gI_wR, gJ_wR, gR_wR, gT_wR, gL_wR, gS_wR, gU_wR, wI_wI, wJ_wJ, wR_wR, j_s, j_add, j_addL, j_addR, j_mulL, j_mulR, j_cl, j_clL, j_neg, j_negL, j_nn, j_lt, j_le, j_eq, j_ltL, j_ltR, j_leL, j_leR, j_eqL, j_eqR, j_m1, j_m1L, j_m1R, j_eqLL, j_ltLL, j_leLL, n_le0, n_le1, n_lt0, n_lt1, gc_v, gc_n, ↓reduceIte, and_true, true_and, and_self, or_self, or_false, false_or, not_false_eq_true, not_true_eq_false, false_and, and_false, Nat.reduceAdd, Nat.reduceEqDiff, Nat.reduceLeDiff, Nat.reduceLT]
              exact (s261_100 ..).trans (s261_100 ..).symm
            · by_cases z : j = 0
              · subst z; rw [up1_eq, rS_0]
              · rw [up1_nj _ _ z, q2 j hj, if_pos (by omega)]
          · intro t ht K ⟨q1, q2, q3⟩
            try dsimp only
            obtain ⟨u, eu⟩ : ∃ u, k - 1 - t = u + 1 := ⟨k - 1 - t - 1, by omega⟩
            have eu2 : k - 1 - (t + 1) = u := by omega
            have v := q2 u (by omega)
            rw [if_neg (by omega)] at v
            have e1' : Int32.ofNat (u + 1) - 1 = Int32.ofNat u := j_sub (m := u + 1) (n := 1) (by omega)
            refine ⟨up1 K 1262 (u + 1) (Int64.ofNat (rS k p i u * p)), ?_, fun b hb => by rw [up1_nc _ _ _ hb]; exact q1 b hb, fun j hj => ?_, by rw [up1_nj _ _ (by omega)]; exact q3⟩
            · rw [eu, eu2, s261_179]
              have n0 : ¬ u + 1 ≤ 0 := by omega
              simp (disch := first | omega | assumption) only [hmz.t, m_r52 hmz, m_t52 hmz, m_l52 hmz, e1', v, c3, k_mul, j_dec, n0, gT_wI, gR_wI, gL_wI, gS_wI, gU_wI, gI_wI, gJ_wI, gI_wJ, gJ_wJ, gR_wJ, gT_wJ, gL_wJ, gS_wJ, gU_wJ, gI_wR, gJ_wR, gR_wR, gT_wR, gL_wR, gS_wR, gU_wR, wI_wI, wJ_wJ, wR_wR, j_s, j_add, j_addL, j_addR, j_mulL, j_mulR, j_cl, j_clL, j_neg, j_negL, j_nn, j_lt, j_le, j_eq, j_ltL, j_ltR, j_leL, j_leR, j_eqL, j_eqR, j_m1, j_m1L, j_m1R, j_eqLL, j_ltLL, j_leLL, n_le0, n_le1, n_lt0, n_lt1, gc_v, gc_n, ↓reduceIte, and_true, true_and, and_self, or_self, or_false, false_or, not_false_eq_true, not_true_eq_false, false_and, and_false, Nat.reduceAdd, Nat.reduceEqDiff, Nat.reduceLeDiff, Nat.reduceLT]
            · rw [eu2]
              by_cases z : j = u + 1
              · subst z; rw [up1_eq, if_pos (by omega), rS_s]
              · rw [up1_nj _ _ z, q2 j hj, eu]
                by_cases c : u + 1 < j
                · rw [if_pos c, if_pos (by omega)]
                · rw [if_neg c, if_neg (by omega)]
        · intro t ht x
          try dsimp only
          have v := j2 t ht
          rw [s261_116]
          simp (disch := first | omega | assumption) only [hmz.t, m_r52 hmz, m_t52 hmz, m_l52 hmz, v, c16, k_add, k_mul, gT_wI, gR_wI, gL_wI, gS_wI, gU_wI, gI_wI, gJ_wI, gI_wJ, gJ_wJ, gR_wJ, gT_wJ, gL_wJ, gS_wJ, gU_wJ, gI_wR, gJ_wR, gR_wR, gT_wR, gL_wR, gS_wR, gU_wR, wI_wI, wJ_wJ, wR_wR, j_s, j_add, j_addL, j_addR, j_mulL, j_mulR, j_cl, j_clL, j_neg, j_negL, j_nn, j_lt, j_le, j_eq, j_ltL, j_ltR, j_leL, j_leR, j_eqL, j_eqR, j_m1, j_m1L, j_m1R, j_eqLL, j_ltLL, j_leLL, n_le0, n_le1, n_lt0, n_lt1, gc_v, gc_n, ↓reduceIte, and_true, true_and, and_self, or_self, or_false, false_or, not_false_eq_true, not_true_eq_false, false_and, and_false, Nat.reduceAdd, Nat.reduceEqDiff, Nat.reduceLeDiff, Nat.reduceLT]
  · intro i hi J ⟨j1, j2⟩
    try dsimp only
    refine ⟨up1 J 1262 i (Int64.ofNat (if i = 0 then 1 else 0)), ?_, fun b hb => by rw [up1_nc _ _ _ hb]; exact j1 b hb, fun j hj => ?_⟩
    · rw [s261_64]
      have n14 : ¬ 14 ≤ i := by omega
      by_cases z : i = 0
      · subst z
        simp (disch := first | omega | assumption) only [hmz.t, m_r52 hmz, m_t52 hmz, m_l52 hmz, n14, s261_87, gT_wI, gR_wI, gL_wI, gS_wI, gU_wI, gI_wI, gJ_wI, gI_wJ, gJ_wJ, gR_wJ, gT_wJ, gL_wJ, gS_wJ, gU_wJ, gI_wR, gJ_wR, gR_wR, gT_wR, gL_wR, gS_wR, gU_wR, wI_wI, wJ_wJ, wR_wR, j_s, j_add, j_addL, j_addR, j_mulL, j_mulR, j_cl, j_clL, j_neg, j_negL, j_nn, j_lt, j_le, j_eq, j_ltL, j_ltR, j_leL, j_leR, j_eqL, j_eqR, j_m1, j_m1L, j_m1R, j_eqLL, j_ltLL, j_leLL, n_le0, n_le1, n_lt0, n_lt1, gc_v, gc_n, ↓reduceIte, and_true, true_and, and_self, or_self, or_false, false_or, not_false_eq_true, not_true_eq_false, false_and, and_false, Nat.reduceAdd, Nat.reduceEqDiff, Nat.reduceLeDiff, Nat.reduceLT]
        rfl
      · simp (disch := first | omega | assumption) only [hmz.t, m_r52 hmz, m_t52 hmz, m_l52 hmz, n14, z, s261_87, gT_wI, gR_wI, gL_wI, gS_wI, gU_wI, gI_wI, gJ_wI, gI_wJ, gJ_wJ, gR_wJ, gT_wJ, gL_wJ, gS_wJ, gU_wJ, gI_wR, gJ_wR, gR_wR, gT_wR, gL_wR, gS_wR, gU_wR, wI_wI, wJ_wJ, wR_wR, j_s, j_add, j_addL, j_addR, j_mulL, j_mulR, j_cl, j_clL, j_neg, j_negL, j_nn, j_lt, j_le, j_eq, j_ltL, j_ltR, j_leL, j_leR, j_eqL, j_eqR, j_m1, j_m1L, j_m1R, j_eqLL, j_ltLL, j_leLL, n_le0, n_le1, n_lt0, n_lt1, gc_v, gc_n, ↓reduceIte, and_true, true_and, and_self, or_self, or_false, false_or, not_false_eq_true, not_true_eq_false, false_and, and_false, Nat.reduceAdd, Nat.reduceEqDiff, Nat.reduceLeDiff, Nat.reduceLT]
        rfl
    · by_cases z : j = i
      · subst z; exact up1_eq _ _ _ _
      · rw [up1_nj _ _ z]; exact j2 j (by omega)
theorem wto {v hi : Int32} : (if v < 0 then (0 : Int32) else if hi < v then 0 else 1) = 0 ∨ ((if v < 0 then (0 : Int32) else if hi < v then 0 else 1) = 1 ∧ ¬ (v < 0 ∨ hi < v)) := by
  by_cases c1 : v < 0
  · rw [if_pos c1]; exact Or.inl rfl
  · rw [if_neg c1]
    by_cases c2 : hi < v
    · rw [if_pos c2]; exact Or.inl rfl
    · rw [if_neg c2]; exact Or.inr ⟨rfl, fun z => z.elim c1 c2⟩
theorem m261a {D : gdD} {v1 v2 v3 v4 : Int32} (hv : (v1 < 0 ∨ 12 < v1) ∨ (v2 < 0 ∨ 12 < v2) ∨ (v3 < 0 ∨ 16 < v3) ∨ (v4 < 0 ∨ 1 < v4)) : MNo 261 [.int v1, .int v2, .int v3, .int v4] D 25 1 (.long 0) := by
  intro d h hd hi hD
  obtain ⟨d, rfl⟩ : ∃ e, d = e + 1 := ⟨d - 1, by omega⟩
  obtain ⟨hz, ez, hiz, z0, qz⟩ := hi.z
  have hm := hi.1
  have hmz := hiz.1
  have e183 := sp183n hmz z0 (d := d) (by omega) (c := 1) (by decide) 25 (by omega) (by omega)
  have E : ∀ a b c e (f g i j k : Value), go gd_P0 d 261 51 [.ref 1231, .int a, .int b, .int c, .int e, .null, .null, .null, .null, .null, .null] [.int 0, .ref 1231] hz = some (.inl (some (.long 0)), mthr 25 1 h) := by
    intro a b c e _ _ _ _ _
    rw [s261_51, if_pos hmz.t]
    refine Eq.trans (congrArg (gc gd_P0 d 261 _ _ _ _) e183) ?_
    rw [gc_v, s261_56, if_pos rfl]
    subst ez
    rw [mthr_z]
  have E2 := fun a b c e => E a b c e .null .null .null .null .null
  have n1 : ¬ (1 : Int32) = 0 := by decide
  rw [r261, s261_0]
  simp only [hm.t, ez, sp233 (d := d) (by omega), ↓reduceIte]
  rcases wto (v := v1) (hi := 12) with x1 | ⟨x1, y1⟩
  · simp (disch := first | omega | assumption) only [hmz.t, x1, s261_13, s261_50, E2, gT_wI, gR_wI, gL_wI, gS_wI, gU_wI, gI_wI, gJ_wI, gI_wJ, gJ_wJ, gR_wJ, gT_wJ, gL_wJ, gS_wJ, gU_wJ, gI_wR, gJ_wR, gR_wR, gT_wR, gL_wR, gS_wR, gU_wR, wI_wI, wJ_wJ, wR_wR, j_s, j_add, j_addL, j_addR, j_mulL, j_mulR, j_cl, j_clL, j_neg, j_negL, j_nn, j_lt, j_le, j_eq, j_ltL, j_ltR, j_leL, j_leR, j_eqL, j_eqR, j_m1, j_m1L, j_m1R, j_eqLL, j_ltLL, j_leLL, n_le0, n_le1, n_lt0, n_lt1, gc_v, gc_n, ↓reduceIte, and_true, true_and, and_self, or_self, or_false, false_or, not_false_eq_true, not_true_eq_false, false_and, and_false, Nat.reduceAdd, Nat.reduceEqDiff, Nat.reduceLeDiff, Nat.reduceLT]
  · rcases wto (v := v2) (hi := 12) with x2 | ⟨x2, y2⟩
    · simp (disch := first | omega | assumption) only [hmz.t, sp233 (d := d) (by omega), n1, x1, x2, s261_13, s261_23, s261_50, E2, gT_wI, gR_wI, gL_wI, gS_wI, gU_wI, gI_wI, gJ_wI, gI_wJ, gJ_wJ, gR_wJ, gT_wJ, gL_wJ, gS_wJ, gU_wJ, gI_wR, gJ_wR, gR_wR, gT_wR, gL_wR, gS_wR, gU_wR, wI_wI, wJ_wJ, wR_wR, j_s, j_add, j_addL, j_addR, j_mulL, j_mulR, j_cl, j_clL, j_neg, j_negL, j_nn, j_lt, j_le, j_eq, j_ltL, j_ltR, j_leL, j_leR, j_eqL, j_eqR, j_m1, j_m1L, j_m1R, j_eqLL, j_ltLL, j_leLL, n_le0, n_le1, n_lt0, n_lt1, gc_v, gc_n, ↓reduceIte, and_true, true_and, and_self, or_self, or_false, false_or, not_false_eq_true, not_true_eq_false, false_and, and_false, Nat.reduceAdd, Nat.reduceEqDiff, Nat.reduceLeDiff, Nat.reduceLT]
    · rcases wto (v := v3) (hi := 16) with x3 | ⟨x3, y3⟩
      · simp (disch := first | omega | assumption) only [hmz.t, sp233 (d := d) (by omega), n1, x1, x2, x3, s261_13, s261_23, s261_33, s261_50, E2, gT_wI, gR_wI, gL_wI, gS_wI, gU_wI, gI_wI, gJ_wI, gI_wJ, gJ_wJ, gR_wJ, gT_wJ, gL_wJ, gS_wJ, gU_wJ, gI_wR, gJ_wR, gR_wR, gT_wR, gL_wR, gS_wR, gU_wR, wI_wI, wJ_wJ, wR_wR, j_s, j_add, j_addL, j_addR, j_mulL, j_mulR, j_cl, j_clL, j_neg, j_negL, j_nn, j_lt, j_le, j_eq, j_ltL, j_ltR, j_leL, j_leR, j_eqL, j_eqR, j_m1, j_m1L, j_m1R, j_eqLL, j_ltLL, j_leLL, n_le0, n_le1, n_lt0, n_lt1, gc_v, gc_n, ↓reduceIte, and_true, true_and, and_self, or_self, or_false, false_or, not_false_eq_true, not_true_eq_false, false_and, and_false, Nat.reduceAdd, Nat.reduceEqDiff, Nat.reduceLeDiff, Nat.reduceLT]
      · rcases wto (v := v4) (hi := 1) with x4 | ⟨x4, y4⟩
        · simp (disch := first | omega | assumption) only [hmz.t, sp233 (d := d) (by omega), n1, x1, x2, x3, x4, s261_13, s261_23, s261_33, s261_43, s261_50, E2, gT_wI, gR_wI, gL_wI, gS_wI, gU_wI, gI_wI, gJ_wI, gI_wJ, gJ_wJ, gR_wJ, gT_wJ, gL_wJ, gS_wJ, gU_wJ, gI_wR, gJ_wR, gR_wR, gT_wR, gL_wR, gS_wR, gU_wR, wI_wI, wJ_wJ, wR_wR, j_s, j_add, j_addL, j_addR, j_mulL, j_mulR, j_cl, j_clL, j_neg, j_negL, j_nn, j_lt, j_le, j_eq, j_ltL, j_ltR, j_leL, j_leR, j_eqL, j_eqR, j_m1, j_m1L, j_m1R, j_eqLL, j_ltLL, j_leLL, n_le0, n_le1, n_lt0, n_lt1, gc_v, gc_n, ↓reduceIte, and_true, true_and, and_self, or_self, or_false, false_or, not_false_eq_true, not_true_eq_false, false_and, and_false, Nat.reduceAdd, Nat.reduceEqDiff, Nat.reduceLeDiff, Nat.reduceLT]
        · exact absurd hv (fun z => z.elim y1 (fun z => z.elim y2 (fun z => z.elim y3 y4)))

/-! ===== run: the class ===== -/
set_option maxRecDepth 100000
theorem rT_c (f : Nat → Nat) (c : Nat) : ∀ k, fo (fun t x => x + f t * c) k 0 = rT f k * c
  | 0 => (Nat.zero_mul c).symm
  | k + 1 => by rw [fo_s, rT_c f c k, rT_s, Nat.add_mul]
theorem sh16 : ∀ n, n ≤ 12 → (1 : Int64) <<< (Int32.toInt64 (4 * Int32.ofNat n) &&& 63) = Int64.ofNat (16 ^ n) := by decide +kernel
theorem x78 {D : gdD} {n k p w : Nat} (hn : n ≤ 12) (hk : k ≤ 12) (hp : p ≤ 16) (hw : w ≤ 1) : XOk 78 [.int (Int32.ofNat n), .int (Int32.ofNat k), .int (Int32.ofNat p), .int (Int32.ofNat w)] D (.long (vRun n k p (Int32.ofNat w))) := by
  intro d h hd hi hD
  obtain ⟨a, σ, m, h145, hσ, hs, hx, hr, hm, hl, hE, ha, hT9⟩ := hi.nw hD
  have hg := hi.1
  have hz : 4 ≤ gS h := by have := hi.2.2.2.2.2.2.2.2.2.2; omega
  obtain ⟨d, rfl⟩ : ∃ e, d = e + 1 := ⟨d - 1, by omega⟩
  obtain ⟨⟨hA1, hA2, hS1⟩, ⟨tA, rA8, tLw, rA9⟩, ⟨rA0, tA1, lA1⟩, ⟨rA1, tA2, lA2⟩, ⟨rA2, tA3, lA3⟩, ⟨rA3, tA4, lA4⟩, ⟨rA4, tA5, lA5⟩, ⟨rA5, tA6, lA6⟩, ⟨rA6, tA7, lA7⟩, ⟨rA7, tA8⟩, tS, ⟨rS0, tS1, lS1⟩, ⟨rS1, tS2, lS2⟩, ⟨rS2, tS3, lS3⟩, ⟨rS3, tS4, lS4⟩, ⟨rS4, tS5, lS5⟩, ⟨rS5, tS6, lS6⟩⟩ := id hs
  obtain ⟨⟨hB, hN⟩, ⟨iB, iN⟩, iG, iK, iR, cH, cF, cO, cA, cC, cW, cT, cG, cM, cL⟩ := id hx
  have e1 := sp53 hg (d := d) (by omega) (v := Int32.ofNat n) (lo := 0) (hi := 12) (by rw [j_neg (by omega)]; exact fun z => z) (by rw [j_ltL (by omega) (by omega)]; omega)
  have e2 := sp53 hg (d := d) (by omega) (v := Int32.ofNat k) (lo := 0) (hi := 12) (by rw [j_neg (by omega)]; exact fun z => z) (by rw [j_ltL (by omega) (by omega)]; omega)
  have e3 := sp53 hg (d := d) (by omega) (v := Int32.ofNat p) (lo := 0) (hi := 16) (by rw [j_neg (by omega)]; exact fun z => z) (by rw [j_ltL (by omega) (by omega)]; omega)
  have e4 := sp53 hg (d := d) (by omega) (v := Int32.ofNat w) (lo := 0) (hi := 1) (by rw [j_neg (by omega)]; exact fun z => z) (by rw [j_ltL (by omega) (by omega)]; omega)
  have t14 := x_t14 hg
  have c16 : Int32.toInt64 (16 - Int32.ofNat p) = Int64.ofNat (16 - p) := by
    rw [show (16 : Int32) = Int32.ofNat 16 from rfl, j_sub hp, k_32 _ (by omega)]
  have c3 : Int32.toInt64 (Int32.ofNat p) = Int64.ofNat p := k_32 _ (by omega)
  have A := lp_e (fun i J => go gd_P0 d 78 35 [.ref 96, .int (Int32.ofNat n), .int (Int32.ofNat k), .int (Int32.ofNat p), .int (Int32.ofNat w), .int (Int32.ofNat i), .null, .null, .null, .null] [] (wJ h J)) (fun i J => (∀ b, b ≠ 1223 → J b = gJ h b) ∧ ∀ j, j < i → J 1223 j = Int64.ofNat (rS k p 0 j)) 13 (gJ h) ⟨fun _ _ => rfl, fun j hj => absurd hj (Nat.not_lt_zero j)⟩ ?_
  · obtain ⟨J, ea, j1, j2⟩ := A
    have B := lp_e (fun i J => go gd_P0 d 78 68 [.ref 96, .int (Int32.ofNat n), .int (Int32.ofNat k), .int (Int32.ofNat p), .int (Int32.ofNat w), .int (Int32.ofNat i), .null, .null, .null, .null] [] (wJ h J)) (fun i J => (∀ b, b ≠ 1223 → J b = gJ h b) ∧ ∀ j, j < k → J 1223 j = Int64.ofNat (rS k p i j)) n J ⟨j1, fun j hj => j2 j (by omega)⟩ ?_
    · obtain ⟨K, eb, k1, k2⟩ := B
      refine ⟨wJ h K, ?_, ⟨gI h, K, gR h, rfl, fun _ _ _ => rfl, fun _ _ => rfl, k1, fun _ _ _ _ => rfl⟩⟩
      have C := lp_f (fun t x => go gd_P0 d 78 172 [.ref 96, .null, .int (Int32.ofNat k), .null, .int (Int32.ofNat w), .long (Int64.ofNat x), .null, .long (Int64.ofNat (16 ^ n)), .null, .int (Int32.ofNat t)] [] (wJ h K)) (fun t x => x + rS k p n t) k 0 ?_
      · have tl : rT (rS k p n) k ≤ 16 ^ n := by
          by_cases k0 : k = 0
          · subst k0; exact Nat.zero_le _
          · have := r_all (k := k) (by omega) hp n; omega
        have b16 : 16 ^ n ≤ 16 ^ 12 := Nat.pow_le_pow_right (by omega) hn
        have g16 : 1 ≤ 16 ^ n := Nat.one_le_pow _ _ (by omega)
        have e79 := sp79 (h := wJ h K) (d := d) (by omega) (n := 16 ^ n - rT (rS k p n) k) (m := 16 ^ n) (Int32.ofNat w) (by omega) (by omega) (by omega)
        have ks : Int64.ofNat (16 ^ n) - Int64.ofNat (rT (rS k p n) k) = Int64.ofNat (16 ^ n - rT (rS k p n) k) := k_sub tl
        have s16 := sh16 n hn
        rw [r78, s78_0]
        simp (disch := first | omega | assumption) only [hg.1, e1, e2, e3, e4, s78_8, s78_16, s78_24, s78_32, gT_wI, gR_wI, gL_wI, gS_wI, gU_wI, gI_wI, gJ_wI, gI_wJ, gJ_wJ, gR_wJ, gT_wJ, gL_wJ, gS_wJ, gU_wJ, gI_wR, gJ_wR, gR_wR, gT_wR, gL_wR, gS_wR, gU_wR, wI_wI, wJ_wJ, wR_wR, j_s, j_add, j_addL, j_addR, j_mulL, j_mulR, j_cl, j_clL, j_neg, j_negL, j_nn, j_lt, j_le, j_eq, j_ltL, j_ltR, j_leL, j_leR, j_eqL, j_eqR, j_m1, j_m1L, j_m1R, j_eqLL, j_ltLL, j_leLL, n_le0, n_le1, n_lt0, n_lt1, gc_v, gc_n, ↓reduceIte, and_true, true_and, and_self, or_self, or_false, false_or, not_false_eq_true, not_true_eq_false, false_and, and_false, Nat.reduceAdd, Nat.reduceEqDiff, Nat.reduceLeDiff, Nat.reduceLT]
        refine Eq.trans ea ?_
        try dsimp only
        rw [s78_35, if_pos (by decide)]
        refine Eq.trans eb ?_
        try dsimp only
        rw [s78_68, if_pos (by rw [j_le (by omega) (by omega)]; omega), s16]
        refine Eq.trans ((s78_172 ..).trans (s78_172 ..).symm) (C.trans ?_)
        try dsimp only
        have ef : fo (fun t x => x + rS k p n t) k 0 = rT (rS k p n) k := rfl
        rw [ef, s78_172, if_pos (by rw [j_le (by omega) (by omega)]; omega), ks, e79, gc_v, s78_208]
        rfl
      · intro t ht x
        try dsimp only
        have v := k2 t ht
        rw [s78_172]
        simp (disch := first | omega | assumption) only [hg.1, x_r14 hg, t14, x_l14 hg, v, k_add, gT_wI, gR_wI, gL_wI, gS_wI, gU_wI, gI_wI, gJ_wI, gI_wJ, gJ_wJ, gR_wJ, gT_wJ, gL_wJ, gS_wJ, gU_wJ, gI_wR, gJ_wR, gR_wR, gT_wR, gL_wR, gS_wR, gU_wR, wI_wI, wJ_wJ, wR_wR, j_s, j_add, j_addL, j_addR, j_mulL, j_mulR, j_cl, j_clL, j_neg, j_negL, j_nn, j_lt, j_le, j_eq, j_ltL, j_ltR, j_leL, j_leR, j_eqL, j_eqR, j_m1, j_m1L, j_m1R, j_eqLL, j_ltLL, j_leLL, n_le0, n_le1, n_lt0, n_lt1, gc_v, gc_n, ↓reduceIte, and_true, true_and, and_self, or_self, or_false, false_or, not_false_eq_true, not_true_eq_false, false_and, and_false, Nat.reduceAdd, Nat.reduceEqDiff, Nat.reduceLeDiff, Nat.reduceLT]
    · intro i hi J ⟨j1, j2⟩
      try dsimp only
      have C := lp_f (fun t x => go gd_P0 d 78 80 [.ref 96, .int (Int32.ofNat n), .int (Int32.ofNat k), .int (Int32.ofNat p), .int (Int32.ofNat w), .int (Int32.ofNat i), .long (Int64.ofNat x), .null, .int (Int32.ofNat t), .null] [] (wJ h J)) (fun t x => x + rS k p i t * (16 - p)) k 0 ?_
      · rw [rT_c] at C
        have nx : ∀ K w6 w8, go gd_P0 d 78 68 [.ref 96, .int (Int32.ofNat n), .int (Int32.ofNat k), .int (Int32.ofNat p), .int (Int32.ofNat w), .int (Int32.ofNat (i + 1)), w6, .null, w8, .null] [] (wJ h K) = go gd_P0 d 78 68 [.ref 96, .int (Int32.ofNat n), .int (Int32.ofNat k), .int (Int32.ofNat p), .int (Int32.ofNat w), .int (Int32.ofNat (i + 1)), .null, .null, .null, .null] [] (wJ h K) := fun K w6 w8 => (s78_68 ..).trans (s78_68 ..).symm
        have s0 : go gd_P0 d 78 68 [.ref 96, .int (Int32.ofNat n), .int (Int32.ofNat k), .int (Int32.ofNat p), .int (Int32.ofNat w), .int (Int32.ofNat i), .null, .null, .null, .null] [] (wJ h J) = go gd_P0 d 78 115 [.ref 96, .int (Int32.ofNat n), .int (Int32.ofNat k), .int (Int32.ofNat p), .int (Int32.ofNat w), .int (Int32.ofNat i), .long (Int64.ofNat (rT (rS k p i) k * (16 - p))), .null, .int (Int32.ofNat k - 1), .null] [] (wJ h J) := by
          rw [s78_68, if_neg (by rw [j_le (by omega) (by omega)]; omega)]
          refine Eq.trans C ?_
          try dsimp only
          rw [s78_80, if_pos (by rw [j_le (by omega) (by omega)]; omega)]
        by_cases k0 : k = 0
        · subst k0
          refine ⟨up1 J 1223 0 (Int64.ofNat (rT (rS 0 p i) 0 * (16 - p))), ?_, fun b hb => by rw [up1_nc _ _ _ hb]; exact j1 b hb, fun j hj => absurd hj (Nat.not_lt_zero j)⟩
          rw [s0, s78_115, if_pos (by decide)]
          simp (disch := first | omega | assumption) only [hg.1, x_r14 hg, t14, x_l14 hg, nx, gT_wI, gR_wI, gL_wI, gS_wI, gU_wI, gI_wI, gJ_wI, gI_wJ, gJ_wJ, gR_wJ, gT_wJ, gL_wJ, gS_wJ, gU_wJ, gI_wR, gJ_wR, gR_wR, gT_wR, gL_wR, gS_wR, gU_wR, wI_wI, wJ_wJ, wR_wR, j_s, j_add, j_addL, j_addR, j_mulL, j_mulR, j_cl, j_clL, j_neg, j_negL, j_nn, j_lt, j_le, j_eq, j_ltL, j_ltR, j_leL, j_leR, j_eqL, j_eqR, j_m1, j_m1L, j_m1R, j_eqLL, j_ltLL, j_leLL, n_le0, n_le1, n_lt0, n_lt1, gc_v, gc_n, ↓reduceIte, and_true, true_and, and_self, or_self, or_false, false_or, not_false_eq_true, not_true_eq_false, false_and, and_false, Nat.reduceAdd, Nat.reduceEqDiff, Nat.reduceLeDiff, Nat.reduceLT]
        · have L := lp_e (fun t K => go gd_P0 d 78 115 [.ref 96, .int (Int32.ofNat n), .int (Int32.ofNat k), .int (Int32.ofNat p), .int (Int32.ofNat w), .int (Int32.ofNat i), .long (Int64.ofNat (rT (rS k p i) k * (16 - p))), .null, .int (Int32.ofNat (k - 1 - t)), .null] [] (wJ h K)) (fun t K => (∀ b, b ≠ 1223 → K b = gJ h b) ∧ ∀ j, j < k → K 1223 j = Int64.ofNat (if k - 1 - t < j then rS k p (i + 1) j else rS k p i j)) (k - 1) J ⟨j1, fun j hj => by rw [if_neg (by omega)]; exact j2 j hj⟩ ?_
          · obtain ⟨K, e5, q1, q2⟩ := L
            refine ⟨up1 K 1223 0 (Int64.ofNat (rT (rS k p i) k * (16 - p))), ?_, fun b hb => by rw [up1_nc _ _ _ hb]; exact q1 b hb, fun j hj => ?_⟩
            · rw [s0, show Int32.ofNat k - 1 = Int32.ofNat (k - 1 - 0) from j_sub (m := k) (n := 1) (by omega), e5]
              try dsimp only
              rw [Nat.sub_self, s78_115, if_pos (by decide)]
              simp (disch := first | omega | assumption) only [hg.1, x_r14 hg, t14, x_l14 hg, nx, gT_wI, gR_wI, gL_wI, gS_wI, gU_wI, gI_wI, gJ_wI, gI_wJ, gJ_wJ, gR_wJ, gT_wJ, gL_wJ, gS_wJ, gU_wJ, gI_wR, gJ_wR, gR_wR, gT_wR, gL_wR, gS_wR, gU_wR, wI_wI, wJ_wJ, wR_wR, j_s, j_add, j_addL, j_addR, j_mulL, j_mulR, j_cl, j_clL, j_neg, j_negL, j_nn, j_lt, j_le, j_eq, j_ltL, j_ltR, j_leL, j_leR, j_eqL, j_eqR, j_m1, j_m1L, j_m1R, j_eqLL, j_ltLL, j_leLL, n_le0, n_le1, n_lt0, n_lt1, gc_v, gc_n, ↓reduceIte, and_true, true_and, and_self, or_self, or_false, false_or, not_false_eq_true, not_true_eq_false, false_and, and_false, Nat.reduceAdd, Nat.reduceEqDiff, Nat.reduceLeDiff, Nat.reduceLT]
            · by_cases z : j = 0
              · subst z; rw [up1_eq, rS_0]
              · rw [up1_nj _ _ z, q2 j hj, if_pos (by omega)]
          · intro t ht K ⟨q1, q2⟩
            try dsimp only
            obtain ⟨u, eu⟩ : ∃ u, k - 1 - t = u + 1 := ⟨k - 1 - t - 1, by omega⟩
            have eu2 : k - 1 - (t + 1) = u := by omega
            have v := q2 u (by omega)
            rw [if_neg (by omega)] at v
            have e1' : Int32.ofNat (u + 1) - 1 = Int32.ofNat u := j_sub (m := u + 1) (n := 1) (by omega)
            refine ⟨up1 K 1223 (u + 1) (Int64.ofNat (rS k p i u * p)), ?_, fun b hb => by rw [up1_nc _ _ _ hb]; exact q1 b hb, fun j hj => ?_⟩
            · rw [eu, eu2, s78_115]
              have n0 : ¬ u + 1 ≤ 0 := by omega
              simp (disch := first | omega | assumption) only [hg.1, x_r14 hg, t14, x_l14 hg, e1', v, c3, k_mul, j_dec, n0, gT_wI, gR_wI, gL_wI, gS_wI, gU_wI, gI_wI, gJ_wI, gI_wJ, gJ_wJ, gR_wJ, gT_wJ, gL_wJ, gS_wJ, gU_wJ, gI_wR, gJ_wR, gR_wR, gT_wR, gL_wR, gS_wR, gU_wR, wI_wI, wJ_wJ, wR_wR, j_s, j_add, j_addL, j_addR, j_mulL, j_mulR, j_cl, j_clL, j_neg, j_negL, j_nn, j_lt, j_le, j_eq, j_ltL, j_ltR, j_leL, j_leR, j_eqL, j_eqR, j_m1, j_m1L, j_m1R, j_eqLL, j_ltLL, j_leLL, n_le0, n_le1, n_lt0, n_lt1, gc_v, gc_n, ↓reduceIte, and_true, true_and, and_self, or_self, or_false, false_or, not_false_eq_true, not_true_eq_false, false_and, and_false, Nat.reduceAdd, Nat.reduceEqDiff, Nat.reduceLeDiff, Nat.reduceLT]
            · rw [eu2]
              by_cases z : j = u + 1
              · subst z; rw [up1_eq, if_pos (by omega), rS_s]
              · rw [up1_nj _ _ z, q2 j hj, eu]
                by_cases c : u + 1 < j
                · rw [if_pos c, if_pos (by omega)]
                · rw [if_neg c, if_neg (by omega)]
      · intro t ht x
        try dsimp only
        have v := j2 t ht
        rw [s78_80]
        simp (disch := first | omega | assumption) only [hg.1, x_r14 hg, t14, x_l14 hg, v, c16, k_add, k_mul, gT_wI, gR_wI, gL_wI, gS_wI, gU_wI, gI_wI, gJ_wI, gI_wJ, gJ_wJ, gR_wJ, gT_wJ, gL_wJ, gS_wJ, gU_wJ, gI_wR, gJ_wR, gR_wR, gT_wR, gL_wR, gS_wR, gU_wR, wI_wI, wJ_wJ, wR_wR, j_s, j_add, j_addL, j_addR, j_mulL, j_mulR, j_cl, j_clL, j_neg, j_negL, j_nn, j_lt, j_le, j_eq, j_ltL, j_ltR, j_leL, j_leR, j_eqL, j_eqR, j_m1, j_m1L, j_m1R, j_eqLL, j_ltLL, j_leLL, n_le0, n_le1, n_lt0, n_lt1, gc_v, gc_n, ↓reduceIte, and_true, true_and, and_self, or_self, or_false, false_or, not_false_eq_true, not_true_eq_false, false_and, and_false, Nat.reduceAdd, Nat.reduceEqDiff, Nat.reduceLeDiff, Nat.reduceLT]
  · intro i hi J ⟨j1, j2⟩
    try dsimp only
    refine ⟨up1 J 1223 i (Int64.ofNat (rS k p 0 i)), ?_, fun b hb => by rw [up1_nc _ _ _ hb]; exact j1 b hb, fun j hj => ?_⟩
    · rw [s78_35]
      have n12 : ¬ 12 < i := by omega
      by_cases z : i = 0
      · subst z
        simp (disch := first | omega | assumption) only [hg.1, x_r14 hg, t14, x_l14 hg, n12, s78_58, gT_wI, gR_wI, gL_wI, gS_wI, gU_wI, gI_wI, gJ_wI, gI_wJ, gJ_wJ, gR_wJ, gT_wJ, gL_wJ, gS_wJ, gU_wJ, gI_wR, gJ_wR, gR_wR, gT_wR, gL_wR, gS_wR, gU_wR, wI_wI, wJ_wJ, wR_wR, j_s, j_add, j_addL, j_addR, j_mulL, j_mulR, j_cl, j_clL, j_neg, j_negL, j_nn, j_lt, j_le, j_eq, j_ltL, j_ltR, j_leL, j_leR, j_eqL, j_eqR, j_m1, j_m1L, j_m1R, j_eqLL, j_ltLL, j_leLL, n_le0, n_le1, n_lt0, n_lt1, gc_v, gc_n, ↓reduceIte, and_true, true_and, and_self, or_self, or_false, false_or, not_false_eq_true, not_true_eq_false, false_and, and_false, Nat.reduceAdd, Nat.reduceEqDiff, Nat.reduceLeDiff, Nat.reduceLT]
        rfl
      · have ez : rS k p 0 i = 0 := if_neg z
        simp (disch := first | omega | assumption) only [hg.1, x_r14 hg, t14, x_l14 hg, n12, z, ez, s78_58, gT_wI, gR_wI, gL_wI, gS_wI, gU_wI, gI_wI, gJ_wI, gI_wJ, gJ_wJ, gR_wJ, gT_wJ, gL_wJ, gS_wJ, gU_wJ, gI_wR, gJ_wR, gR_wR, gT_wR, gL_wR, gS_wR, gU_wR, wI_wI, wJ_wJ, wR_wR, j_s, j_add, j_addL, j_addR, j_mulL, j_mulR, j_cl, j_clL, j_neg, j_negL, j_nn, j_lt, j_le, j_eq, j_ltL, j_ltR, j_leL, j_leR, j_eqL, j_eqR, j_m1, j_m1L, j_m1R, j_eqLL, j_ltLL, j_leLL, n_le0, n_le1, n_lt0, n_lt1, gc_v, gc_n, ↓reduceIte, and_true, true_and, and_self, or_self, or_false, false_or, not_false_eq_true, not_true_eq_false, false_and, and_false, Nat.reduceAdd, Nat.reduceEqDiff, Nat.reduceLeDiff, Nat.reduceLT]
        rfl
    · by_cases z : j = i
      · subst z; exact up1_eq _ _ _ _
      · rw [up1_nj _ _ z]; exact j2 j (by omega)
theorem x78a {D : gdD} {v v2 v3 v4 : Int32} (hv : v < 0 ∨ 12 < v) : XNo 78 [.int v, .int v2, .int v3, .int v4] D 25 := by
  intro d h hd hi hD
  obtain ⟨a, σ, m, h145, hσ, hs, hx, hr, hm, hl, hE, ha, hT9⟩ := hi.nw hD
  have hg := hi.1
  have hz : 4 ≤ gS h := by have := hi.2.2.2.2.2.2.2.2.2.2; omega
  obtain ⟨d, rfl⟩ : ∃ e, d = e + 1 := ⟨d - 1, by omega⟩
  obtain ⟨⟨hA1, hA2, hS1⟩, ⟨tA, rA8, tLw, rA9⟩, ⟨rA0, tA1, lA1⟩, ⟨rA1, tA2, lA2⟩, ⟨rA2, tA3, lA3⟩, ⟨rA3, tA4, lA4⟩, ⟨rA4, tA5, lA5⟩, ⟨rA5, tA6, lA6⟩, ⟨rA6, tA7, lA7⟩, ⟨rA7, tA8⟩, tS, ⟨rS0, tS1, lS1⟩, ⟨rS1, tS2, lS2⟩, ⟨rS2, tS3, lS3⟩, ⟨rS3, tS4, lS4⟩, ⟨rS4, tS5, lS5⟩, ⟨rS5, tS6, lS6⟩⟩ := id hs
  obtain ⟨⟨hB, hN⟩, ⟨iB, iN⟩, iG, iK, iR, cH, cF, cO, cA, cC, cW, cT, cG, cM, cL⟩ := id hx
  rw [r78, s78_0]
  simp (disch := first | omega | assumption) only [hg.1, x_r14 hg, x_t14 hg, x_l14 hg, hσ, h145, tA, rA8, tLw, rA9, rA0, tA1, lA1, rA1, tA2, lA2, rA2, tA3, lA3, rA3, tA4, lA4, rA4, tA5, lA5, rA5, tA6, lA6, rA6, tA7, lA7, rA7, tA8, tS, rS0, tS1, lS1, rS1, tS2, lS2, rS2, tS3, lS3, rS3, tS4, lS4, rS4, tS5, lS5, rS5, tS6, lS6, iB, iN, iG, iK, iR, cH, cF, cO, cA, cC, cT, cG, cM, cL, sp53n hg hz (d := d) (by omega) hv, gc_x, gx_n (k := 78) (pc := 5) (t := 25) rfl, gT_wI, gR_wI, gL_wI, gS_wI, gU_wI, gI_wI, gJ_wI, gI_wJ, gJ_wJ, gR_wJ, gT_wJ, gL_wJ, gS_wJ, gU_wJ, gI_wR, gJ_wR, gR_wR, gT_wR, gL_wR, gS_wR, gU_wR, wI_wI, wJ_wJ, wR_wR, j_s, j_add, j_addL, j_addR, j_mulL, j_mulR, j_cl, j_clL, j_neg, j_negL, j_nn, j_lt, j_le, j_eq, j_ltL, j_ltR, j_leL, j_leR, j_eqL, j_eqR, j_m1, j_m1L, j_m1R, j_eqLL, j_ltLL, j_leLL, n_le0, n_le1, n_lt0, n_lt1, gc_v, gc_n, ↓reduceIte, and_true, true_and, and_self, or_self, or_false, false_or, not_false_eq_true, not_true_eq_false, false_and, and_false, Nat.reduceAdd, Nat.reduceEqDiff, Nat.reduceLeDiff, Nat.reduceLT]
theorem x78b {D : gdD} {n : Nat} (hn : n ≤ 12) {v v3 v4 : Int32} (hv : v < 0 ∨ 12 < v) : XNo 78 [.int (Int32.ofNat n), .int v, .int v3, .int v4] D 25 := by
  intro d h hd hi hD
  obtain ⟨a, σ, m, h145, hσ, hs, hx, hr, hm, hl, hE, ha, hT9⟩ := hi.nw hD
  have hg := hi.1
  have hz : 4 ≤ gS h := by have := hi.2.2.2.2.2.2.2.2.2.2; omega
  obtain ⟨d, rfl⟩ : ∃ e, d = e + 1 := ⟨d - 1, by omega⟩
  obtain ⟨⟨hA1, hA2, hS1⟩, ⟨tA, rA8, tLw, rA9⟩, ⟨rA0, tA1, lA1⟩, ⟨rA1, tA2, lA2⟩, ⟨rA2, tA3, lA3⟩, ⟨rA3, tA4, lA4⟩, ⟨rA4, tA5, lA5⟩, ⟨rA5, tA6, lA6⟩, ⟨rA6, tA7, lA7⟩, ⟨rA7, tA8⟩, tS, ⟨rS0, tS1, lS1⟩, ⟨rS1, tS2, lS2⟩, ⟨rS2, tS3, lS3⟩, ⟨rS3, tS4, lS4⟩, ⟨rS4, tS5, lS5⟩, ⟨rS5, tS6, lS6⟩⟩ := id hs
  obtain ⟨⟨hB, hN⟩, ⟨iB, iN⟩, iG, iK, iR, cH, cF, cO, cA, cC, cW, cT, cG, cM, cL⟩ := id hx
  rw [r78, s78_0]
  simp (disch := first | omega | assumption) only [hg.1, x_r14 hg, x_t14 hg, x_l14 hg, hσ, h145, tA, rA8, tLw, rA9, rA0, tA1, lA1, rA1, tA2, lA2, rA2, tA3, lA3, rA3, tA4, lA4, rA4, tA5, lA5, rA5, tA6, lA6, rA6, tA7, lA7, rA7, tA8, tS, rS0, tS1, lS1, rS1, tS2, lS2, rS2, tS3, lS3, rS3, tS4, lS4, rS4, tS5, lS5, rS5, tS6, lS6, iB, iN, iG, iK, iR, cH, cF, cO, cA, cC, cT, cG, cM, cL, sp53 hg (d := d) (by omega) (v := Int32.ofNat n) (lo := 0) (hi := 12) (by rw [j_neg (by omega)]; exact fun z => z) (by rw [j_ltL (by omega) (by omega)]; omega), s78_8, sp53n hg hz (d := d) (by omega) hv, gc_x, gx_n (k := 78) (pc := 13) (t := 25) rfl, gT_wI, gR_wI, gL_wI, gS_wI, gU_wI, gI_wI, gJ_wI, gI_wJ, gJ_wJ, gR_wJ, gT_wJ, gL_wJ, gS_wJ, gU_wJ, gI_wR, gJ_wR, gR_wR, gT_wR, gL_wR, gS_wR, gU_wR, wI_wI, wJ_wJ, wR_wR, j_s, j_add, j_addL, j_addR, j_mulL, j_mulR, j_cl, j_clL, j_neg, j_negL, j_nn, j_lt, j_le, j_eq, j_ltL, j_ltR, j_leL, j_leR, j_eqL, j_eqR, j_m1, j_m1L, j_m1R, j_eqLL, j_ltLL, j_leLL, n_le0, n_le1, n_lt0, n_lt1, gc_v, gc_n, ↓reduceIte, and_true, true_and, and_self, or_self, or_false, false_or, not_false_eq_true, not_true_eq_false, false_and, and_false, Nat.reduceAdd, Nat.reduceEqDiff, Nat.reduceLeDiff, Nat.reduceLT]
theorem x78c {D : gdD} {n k : Nat} (hn : n ≤ 12) (hk : k ≤ 12) {v v4 : Int32} (hv : v < 0 ∨ 16 < v) : XNo 78 [.int (Int32.ofNat n), .int (Int32.ofNat k), .int v, .int v4] D 25 := by
  intro d h hd hi hD
  obtain ⟨a, σ, m, h145, hσ, hs, hx, hr, hm, hl, hE, ha, hT9⟩ := hi.nw hD
  have hg := hi.1
  have hz : 4 ≤ gS h := by have := hi.2.2.2.2.2.2.2.2.2.2; omega
  obtain ⟨d, rfl⟩ : ∃ e, d = e + 1 := ⟨d - 1, by omega⟩
  obtain ⟨⟨hA1, hA2, hS1⟩, ⟨tA, rA8, tLw, rA9⟩, ⟨rA0, tA1, lA1⟩, ⟨rA1, tA2, lA2⟩, ⟨rA2, tA3, lA3⟩, ⟨rA3, tA4, lA4⟩, ⟨rA4, tA5, lA5⟩, ⟨rA5, tA6, lA6⟩, ⟨rA6, tA7, lA7⟩, ⟨rA7, tA8⟩, tS, ⟨rS0, tS1, lS1⟩, ⟨rS1, tS2, lS2⟩, ⟨rS2, tS3, lS3⟩, ⟨rS3, tS4, lS4⟩, ⟨rS4, tS5, lS5⟩, ⟨rS5, tS6, lS6⟩⟩ := id hs
  obtain ⟨⟨hB, hN⟩, ⟨iB, iN⟩, iG, iK, iR, cH, cF, cO, cA, cC, cW, cT, cG, cM, cL⟩ := id hx
  rw [r78, s78_0]
  simp (disch := first | omega | assumption) only [hg.1, x_r14 hg, x_t14 hg, x_l14 hg, hσ, h145, tA, rA8, tLw, rA9, rA0, tA1, lA1, rA1, tA2, lA2, rA2, tA3, lA3, rA3, tA4, lA4, rA4, tA5, lA5, rA5, tA6, lA6, rA6, tA7, lA7, rA7, tA8, tS, rS0, tS1, lS1, rS1, tS2, lS2, rS2, tS3, lS3, rS3, tS4, lS4, rS4, tS5, lS5, rS5, tS6, lS6, iB, iN, iG, iK, iR, cH, cF, cO, cA, cC, cT, cG, cM, cL, sp53 hg (d := d) (by omega) (v := Int32.ofNat n) (lo := 0) (hi := 12) (by rw [j_neg (by omega)]; exact fun z => z) (by rw [j_ltL (by omega) (by omega)]; omega), sp53 hg (d := d) (by omega) (v := Int32.ofNat k) (lo := 0) (hi := 12) (by rw [j_neg (by omega)]; exact fun z => z) (by rw [j_ltL (by omega) (by omega)]; omega), s78_8, s78_16, sp53n hg hz (d := d) (by omega) hv, gc_x, gx_n (k := 78) (pc := 21) (t := 25) rfl, gT_wI, gR_wI, gL_wI, gS_wI, gU_wI, gI_wI, gJ_wI, gI_wJ, gJ_wJ, gR_wJ, gT_wJ, gL_wJ, gS_wJ, gU_wJ, gI_wR, gJ_wR, gR_wR, gT_wR, gL_wR, gS_wR, gU_wR, wI_wI, wJ_wJ, wR_wR, j_s, j_add, j_addL, j_addR, j_mulL, j_mulR, j_cl, j_clL, j_neg, j_negL, j_nn, j_lt, j_le, j_eq, j_ltL, j_ltR, j_leL, j_leR, j_eqL, j_eqR, j_m1, j_m1L, j_m1R, j_eqLL, j_ltLL, j_leLL, n_le0, n_le1, n_lt0, n_lt1, gc_v, gc_n, ↓reduceIte, and_true, true_and, and_self, or_self, or_false, false_or, not_false_eq_true, not_true_eq_false, false_and, and_false, Nat.reduceAdd, Nat.reduceEqDiff, Nat.reduceLeDiff, Nat.reduceLT]
theorem x78d {D : gdD} {n k p : Nat} (hn : n ≤ 12) (hk : k ≤ 12) (hp : p ≤ 16) {v : Int32} (hv : v < 0 ∨ 1 < v) : XNo 78 [.int (Int32.ofNat n), .int (Int32.ofNat k), .int (Int32.ofNat p), .int v] D 25 := by
  intro d h hd hi hD
  obtain ⟨a, σ, m, h145, hσ, hs, hx, hr, hm, hl, hE, ha, hT9⟩ := hi.nw hD
  have hg := hi.1
  have hz : 4 ≤ gS h := by have := hi.2.2.2.2.2.2.2.2.2.2; omega
  obtain ⟨d, rfl⟩ : ∃ e, d = e + 1 := ⟨d - 1, by omega⟩
  obtain ⟨⟨hA1, hA2, hS1⟩, ⟨tA, rA8, tLw, rA9⟩, ⟨rA0, tA1, lA1⟩, ⟨rA1, tA2, lA2⟩, ⟨rA2, tA3, lA3⟩, ⟨rA3, tA4, lA4⟩, ⟨rA4, tA5, lA5⟩, ⟨rA5, tA6, lA6⟩, ⟨rA6, tA7, lA7⟩, ⟨rA7, tA8⟩, tS, ⟨rS0, tS1, lS1⟩, ⟨rS1, tS2, lS2⟩, ⟨rS2, tS3, lS3⟩, ⟨rS3, tS4, lS4⟩, ⟨rS4, tS5, lS5⟩, ⟨rS5, tS6, lS6⟩⟩ := id hs
  obtain ⟨⟨hB, hN⟩, ⟨iB, iN⟩, iG, iK, iR, cH, cF, cO, cA, cC, cW, cT, cG, cM, cL⟩ := id hx
  rw [r78, s78_0]
  simp (disch := first | omega | assumption) only [hg.1, x_r14 hg, x_t14 hg, x_l14 hg, hσ, h145, tA, rA8, tLw, rA9, rA0, tA1, lA1, rA1, tA2, lA2, rA2, tA3, lA3, rA3, tA4, lA4, rA4, tA5, lA5, rA5, tA6, lA6, rA6, tA7, lA7, rA7, tA8, tS, rS0, tS1, lS1, rS1, tS2, lS2, rS2, tS3, lS3, rS3, tS4, lS4, rS4, tS5, lS5, rS5, tS6, lS6, iB, iN, iG, iK, iR, cH, cF, cO, cA, cC, cT, cG, cM, cL, sp53 hg (d := d) (by omega) (v := Int32.ofNat n) (lo := 0) (hi := 12) (by rw [j_neg (by omega)]; exact fun z => z) (by rw [j_ltL (by omega) (by omega)]; omega), sp53 hg (d := d) (by omega) (v := Int32.ofNat k) (lo := 0) (hi := 12) (by rw [j_neg (by omega)]; exact fun z => z) (by rw [j_ltL (by omega) (by omega)]; omega), sp53 hg (d := d) (by omega) (v := Int32.ofNat p) (lo := 0) (hi := 16) (by rw [j_neg (by omega)]; exact fun z => z) (by rw [j_ltL (by omega) (by omega)]; omega), s78_8, s78_16, s78_24, sp53n hg hz (d := d) (by omega) hv, gc_x, gx_n (k := 78) (pc := 29) (t := 25) rfl, gT_wI, gR_wI, gL_wI, gS_wI, gU_wI, gI_wI, gJ_wI, gI_wJ, gJ_wJ, gR_wJ, gT_wJ, gL_wJ, gS_wJ, gU_wJ, gI_wR, gJ_wR, gR_wR, gT_wR, gL_wR, gS_wR, gU_wR, wI_wI, wJ_wJ, wR_wR, j_s, j_add, j_addL, j_addR, j_mulL, j_mulR, j_cl, j_clL, j_neg, j_negL, j_nn, j_lt, j_le, j_eq, j_ltL, j_ltR, j_leL, j_leR, j_eqL, j_eqR, j_m1, j_m1L, j_m1R, j_eqLL, j_ltLL, j_leLL, n_le0, n_le1, n_lt0, n_lt1, gc_v, gc_n, ↓reduceIte, and_true, true_and, and_self, or_self, or_false, false_or, not_false_eq_true, not_true_eq_false, false_and, and_false, Nat.reduceAdd, Nat.reduceEqDiff, Nat.reduceLeDiff, Nat.reduceLT]

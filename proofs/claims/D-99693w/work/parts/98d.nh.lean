/-! ===== THE CALL work: the model, its call ===== -/
set_option maxRecDepth 100000
theorem m208 {D : gdD} {n : Nat} (hn : n ≤ dFed D) (hn5 : n ≤ 150) : MDo 208 [.int (Int32.ofNat n)] D (WDo D n).1 (WDo D n).2 := by
  intro d h hd hi hD hS
  obtain ⟨d, rfl⟩ : ∃ e, d = e + 1 := ⟨d - 1, by omega⟩
  obtain ⟨hm, ⟨hB, hN⟩, ⟨i1, i2, i3⟩, -, -, -, -, -, ⟨i9, i9'⟩, -, ⟨t1, t2, t3⟩, -⟩ := id hi
  obtain ⟨f0, f2, f8, f3, f4, f5, f7⟩ := bgn_f h n
  have hX := txt_o hD hn t2
  have hb0 := bgn_MB hi hD hn
  have hm0 := hb0.1
  have E : run gd_P0 (d + 1) 208 [.ref 1231, .int (Int32.ofNat n)] h = go gd_P0 d 208 45 [.ref 1231, .int (Int32.ofNat n), .null, .null] [] (bgn h n) := by
    have z1 : ¬ Int32.ofNat n < 0 := by rw [j_neg (by omega)]; exact fun z => z
    have z2 : ¬ (up1 (gI h) 1231 0 0 1231 2) < Int32.ofNat n := by rw [up1_nj _ _ (by omega), t1, j_lt (by omega) (by omega)]; omega
    have z3 : ¬ (150 : Int32) < Int32.ofNat n := by rw [show (150 : Int32) = Int32.ofNat 150 from rfl, j_lt (by omega) (by omega)]; omega
    rw [r208, s208_0, if_pos hm.t, if_neg z1, if_pos hm.t, if_neg z2, if_neg z3, s208_30, gT_wI, if_pos hm.t, sp183 (hm.wI _) (by rw [gI_wI, up1_eq]) (by omega), gc_v, s208_35, if_neg ne_1, gT_wI, if_pos hm.t, sp184 hm n (by omega), gc_n]
  have q16 : (gI (bgn h n) 1231 33 = 16) = (dW D = 16) := by rw [bgn_j h n (by omega), i9]; exact j_eq (n := 16) (by omega) (by omega)
  rw [E, s208_45, if_pos hm0.t]
  unfold WDo
  by_cases c16 : dW D = 16
  · have eM : mm (bgn h n) 0 0 = bgn h n := mm_self f4 f7
    have e199 := sp199g hb0 0 0 f8 (d := d) (by omega) 0
    rw [eM] at e199
    have mi := hi.f0 (MZ.refl (bgn h n)) (-1)
    rw [up1_id f8, wI_self] at mi
    rw [if_pos c16, if_pos (show gI (bgn h n) 1231 33 = 16 by rw [q16]; exact c16), if_pos hm0.t, e199, gc_v, s208_59]
    exact ⟨_, rfl, mi, bgn_fm h n, f0⟩
  have w16 : dW D < 16 := by omega
  rw [if_neg c16, if_neg (show ¬ gI (bgn h n) 1231 33 = 16 by rw [q16]; exact c16), if_pos hm0.t]
  generalize eB : wI (bgn h n) (up1 (gI (bgn h n)) 1231 32 0) = hb
  have qB : MZ (bgn h n) hb := by rw [← eB]; exact MZ.th 32 0 (by decide)
  have gB : ∀ j, j ≠ 32 → gI hb 1231 j = gI (bgn h n) 1231 j := fun j hj => by rw [← eB, gI_wI, up1_nj _ _ hj]
  have hbB : MB hb (txt D n) := by
    obtain ⟨b1, ⟨b2, b3⟩, b4, b5⟩ := hb0
    exact ⟨b1.mz qB, ⟨(gB 3 (by omega)).trans b2, (gB 5 (by omega)).trans b3⟩, fun j hj => by rw [← eB, gI_wI, up1_nc _ _ _ (by omega)]; exact b4 j hj, b5⟩
  have c32 : gI hb 1231 32 = Int32.ofNat (3 * 0) := by rw [← eB, gI_wI, up1_eq]; rfl
  have hSB : SK hb := (hS.fm (bgn_fm h n)).mz qB
  have hEB : EM hb (dE D) := ⟨⟨(gB 20 (by omega)).trans ((bgn_j h n (by omega)).trans i1), (gB 21 (by omega)).trans ((bgn_j h n (by omega)).trans i2)⟩, hB, hN⟩
  have eM : mm hb 0 0 = hb := mm_self ((gB 4 (by omega)).trans f4) ((gB 7 (by omega)).trans f7)
  have hX5 : xn (txt D n) ≤ 150 := hn5
  have out := lp68 (spMn (E := dE D) hX5 6 0 rfl) (fun p hp => wUn_g 6 hp) (fun p hp => wUn_sk 6 hp) hX5 (d := d) (by omega) (by omega) hbB hSB hEB (xn (txt D n) + 1) 0 hb y0 .null .null .null (by omega) (Nat.zero_le _) (VWc.refl c32) (Nat.le_refl _)
  rw [eM] at out
  have g := wWork_g (txt D n) (dE D)
  unfold wWork at g ⊢
  revert out g
  rcases wLp (txt D n) 256 (wUn (txt D n) (dE D) 6) (xn (txt D n) + 1) 0 y0 with ⟨k, pl⟩ | ⟨p, b⟩
  · rintro ⟨h', e, me, hpl⟩ -
    have hp : pl < 100000 := by have := hX.1; omega
    have hbs := me.bs hbB.1 hp
    refine ⟨wI h' (up1 (gI h') 1231 8 (Int32.ofNat pl)), ?_, hi.f0 (qB.trans me.1.1) (Int32.ofNat pl), (bgn_fm h n).trans ((qB.trans me.1.1).fm.trans (FM.wI _ _ (fun b hb => up1_nc _ _ _ (by omega)))), ?_⟩
    · have n5 : ¬ gI (wI h' (up1 (gI h') 1231 8 (Int32.ofNat pl))) 1231 5 = -1 := by rw [gI_wI, up1_nj _ _ (by omega)]; exact hbs.2
      rw [e, s208_89, if_pos hbs.1.t, sp199 hbs me.2.1 me.2.2 (by omega), gc_v, s208_94, if_pos (hbs.1.wI _).t, if_neg n5]
      rfl
    · rw [gI_wI, up1_nj _ _ (by omega), me.1.2, gB 0 (by omega)]; exact f0
  · rintro ⟨h2, e, w, hp⟩ ⟨-, g2, ⟨g3, g4⟩, -⟩
    have hb2 := hbB.vw w
    have w8 : gI h2 1231 8 = -1 := (w.j (by omega)).trans ((gB 8 (by omega)).trans f8)
    have w0 : gI h2 1231 0 = 0 := (w.j (by omega)).trans ((gB 0 (by omega)).trans f0)
    have hm2 := hb2.1
    have e199 := sp199g hb2 p 0 w8 (d := d) (by omega) 0
    generalize eG : mm h2 p 0 = G at e199 e
    have G5 : gI G 1231 5 = -1 := by rw [← eG, mm_j _ _ _ (by omega) (by omega)]; exact hb2.2.1.2
    have G8 : gI G 1231 8 = -1 := by rw [← eG, mm_j _ _ _ (by omega) (by omega)]; exact w8
    have G0 : gI G 1231 0 = 0 := by rw [← eG, mm_j _ _ _ (by omega) (by omega)]; exact w0
    have G32 : gI G 1231 32 = Int32.ofNat (3 * b.1.length) := by rw [← eG, mm_j _ _ _ (by omega) (by omega), w.c, Nat.zero_add]
    have qG : MZ (bgn h n) G := by rw [← eG]; exact qB.trans (w.mz.trans (MZ.mm _ _ _))
    have mG : gT G 1231 = 8 := by rw [← eG]; exact hm2.t
    have miG : MI G (dF0 D (-1)) := by
      have := hi.f0 qG (-1)
      rw [up1_id G8, wI_self] at this
      exact this
    have cm : CM (gI G 1248) 0 b.1 := by
      obtain ⟨I2, rfl, y1, y2, y3, y4, y5⟩ := w
      rw [← eG, mm_b _ _ _ (by omega)]
      exact y5
    have hp5 : p ≤ 150 := by omega
    obtain ⟨F, eF, mF, fF, zF⟩ := m208e hi hD w16 ((bgn_fm h n).trans qG.fm) miG G5 G0 G32 cm g3 (by omega) (by omega) (d := d) (by omega)
    refine ⟨F, ?_, mF, fF, zF⟩
    rw [e, s208_89, if_pos mG, e199, gc_v]
    exact eF
theorem m208n {D : gdD} {v : Int32} (hf : dFed D ≤ 600) (hv : v < 0 ∨ Int32.ofNat (min (dFed D) 150) < v) : MNo 208 [.int v] D 25 1 (.int 0) := by
  intro d h hd hi hD
  obtain ⟨d, rfl⟩ : ∃ e, d = e + 1 := ⟨d - 1, by omega⟩
  obtain ⟨hm, -, -, -, -, -, -, -, -, -, ⟨t1, t2, t3⟩, -⟩ := id hi
  have e183 := sp183n (h := wI h (up1 (gI h) 1231 0 0)) (hm.wI _) (by rw [gI_wI, up1_eq]) (d := d) (by omega) (c := 1) (by decide) 25 (by omega) (by omega)
  rw [mthr_z] at e183
  have E : go gd_P0 d 208 29 [.ref 1231, .int v, .null, .null] [.ref 1231] (wI h (up1 (gI h) 1231 0 0)) = some (.inl (some (.int 0)), mthr 25 1 h) := by
    rw [s208_29, s208_30, gT_wI, if_pos hm.t]
    refine Eq.trans (congrArg (gc gd_P0 d 208 32 35 _ _) e183) ?_
    rw [gc_v, s208_35, if_pos rfl]
  rw [r208, s208_0, if_pos hm.t]
  by_cases c1 : v < 0
  · rw [if_pos c1]; exact E
  rw [if_neg c1, if_pos hm.t, up1_nj _ _ (by omega), t1]
  by_cases c2 : Int32.ofNat (dFed D) < v
  · rw [if_pos c2]; exact E
  rw [if_neg c2]
  have c3 : (150 : Int32) < v := by
    rcases hv with hv | hv
    · exact absurd hv c1
    · by_cases q : dFed D ≤ 150
      · rw [Nat.min_eq_left q] at hv; exact absurd hv c2
      · rw [Nat.min_eq_right (by omega)] at hv; exact hv
  rw [if_pos c3]; exact E
/-! what steps keep -/
theorem pSt_rj {E : gdE} {k x y : Nat} {r : gdR} (ei : EI E) (hBN : eB E ≤ 6 ∧ eN E ≤ 7) (hp : POK E k x y) (hr : RJ E r) (hB : pStB E k x y r = true) : RJ E (pSt E k x y r) := by
  obtain ⟨m, hm, ri⟩ := hr
  have K : k = 0 ∨ k = 1 ∨ k = 2 ∨ k = 3 ∨ k = 4 ∨ k = 5 ∨ k = 6 := by unfold POK at hp; omega
  rcases K with rfl | rfl | rfl | rfl | rfl | rfl | rfl
  · exact ⟨m, hm, ri.no (by unfold POK at hp; omega)⟩
  · exact ⟨m, hm, ri.rw (by unfold POK at hp; omega)⟩
  · exact ⟨m, hm, ri.rw (Or.inr (Or.inr ⟨rfl, x, by unfold POK at hp; omega, rfl⟩))⟩
  · have q : pStB E 3 x y r = decide (Int32.ofNat y < r (42 + x)) := rfl
    exact ⟨m, hm, ri.pl (by unfold POK at hp; omega) (by unfold POK at hp; omega) (by rw [q, decide_eq_true_eq] at hB; exact hB)⟩
  · exact ⟨m, hm, ri.rw (Or.inr (Or.inl ⟨by omega, by unfold POK at hp; omega, Or.inl rfl⟩))⟩
  · exact ⟨m, hm, ri.rw (Or.inr (Or.inl ⟨by omega, by unfold POK at hp; omega, Or.inr rfl⟩))⟩
  · have q49 : (r 49 = 400) = (m = 400) := by rw [ri.2.2.1]; exact j_eq (n := 400) (by omega) (by omega)
    have : ¬ m = 400 := fun z => by
      have q : pStB E 6 x y r = !decide (r 49 = 400) := rfl
      rw [q, decide_eq_true (show r 49 = 400 by rw [q49]; exact z)] at hB
      cases hB
    exact ⟨m + 1, by omega, ri.mo ei (Or.inl rfl) (by omega)⟩
theorem wd_rj {E : gdE} (ei : EI E) (hBN : eB E ≤ 6 ∧ eN E ≤ 7) : ∀ (n : Nat) (b : Bool) (cs : List (Nat × Nat × Nat)) (V : gdT → gdT), wd E n b cs V → ∀ s, RJ E s.1 → RJ E (V s).1
  | 0, b, cs, V, h, s, hs => by rw [wd] at h; exact h.elim
  | n + 1, false, cs, V, h, s, hs => by
    rw [wd] at h
    rcases h with ⟨-, rfl⟩ | ⟨c1, V1, c2, V2, h1, h2, -, rfl⟩
    · exact hs
    · have a := wd_rj ei hBN n false c1 V1 h1 s hs
      show RJ E (gu V2 (V1 s)).1
      unfold gu
      split
      · exact wd_rj ei hBN n true c2 V2 h2 _ a
      · exact a
  | n + 1, true, cs, V, h, s, hs => by
    rw [wd] at h
    rcases h with ⟨k, x, y, hp, -, rfl⟩ | ⟨t, c, V1, ht, h1, -, rfl⟩
    · unfold pOne
      split
      next hB => exact pSt_rj ei hBN hp hs hB
      next => exact hs
    · unfold pAg
      have : ∀ i, RJ E (itr V1 i (s.1, s.2.1 + 1, s.2.2.1, s.2.2.2)).1 := by
        intro i
        induction i with
        | zero => exact hs
        | succ i ih => exact wd_rj ei hBN n false c V1 h1 _ ih
      exact this t
theorem WDo_i {D : gdD} (hD : DI D) (n : Nat) : DI (WDo D n).2 := by
  have hBN : eB (dE D) ≤ 6 ∧ eN (dE D) ≤ 7 := by
    obtain ⟨m, -, ri⟩ := hD.2.1 0 (Nat.zero_le _)
    exact ri.1
  have g := wWork_g (txt D n) (dE D)
  unfold WDo
  split
  · exact hD.f0 _
  · revert g
    rcases wWork (txt D n) (dE D) with ⟨k, pl⟩ | ⟨p, b⟩
    · intro _; exact hD.f0 _
    · rintro ⟨-, -, ⟨g3, -⟩, -⟩
      exact hD.k (wd_rj hD.1 hBN _ _ _ _ g3 (dNow D, 0, 0, 0) (hD.2.1 _ (Nat.le_refl _))) _

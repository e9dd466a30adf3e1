/-! ===== THE CALL school: the model ===== -/
set_option maxRecDepth 100000
theorem wix_at {w : List Nat} {k : Nat} (h : wix w wSc = k) (hk : k < 4) : w = wSc.getD k [] := by
  unfold wSc at h
  simp only [wix] at h
  by_cases x0 : w = [98, 111, 97, 114, 100]
  · rw [if_pos x0] at h; subst h; exact x0
  rw [if_neg x0] at h
  by_cases x1 : w = [98, 111, 121]
  · rw [if_pos x1] at h; subst h; exact x1
  rw [if_neg x1] at h
  by_cases x2 : w = [107, 105, 110]
  · rw [if_pos x2] at h; subst h; exact x2
  rw [if_neg x2] at h
  by_cases x3 : w = [114, 97, 105, 110]
  · rw [if_pos x3] at h; subst h; exact x3
  rw [if_neg x3] at h
  omega
/-- the clauses, up to what comes behind them -/
def LSO (h : gd_H) (d : Nat) : gdQ gdS → Option gd_O → Prop
  | .inl (k, pl), out => ∃ h' , out = go gd_P0 d 182 164 [.ref 1231, .null, .null, .null] [] h' ∧ ME h k pl h'
  | .inr (p', b), out => ∃ h', out = go gd_P0 d 182 164 [.ref 1231, .null, .null, .null] [] (mm h' p' 0) ∧ MZ0 h h' ∧ (gI h' 1231 3 = gI h 1231 3 ∧ gI h' 1231 5 = gI h 1231 5) ∧ ScM (gI h') b ∧ SG b
theorem x182e (d : Nat) (w2 w3 : Value) (h : gd_H) : go gd_P0 d 182 164 [.ref 1231, .null, w2, w3] [] h = go gd_P0 d 182 164 [.ref 1231, .null, .null, .null] [] h := (s182_164 ..).trans (s182_164 ..).symm
theorem mp182 {h : gd_H} {X : gdX} (hb0 : MB h X) (hS0 : SK h) {d : Nat} (hd : 10 ≤ d) : ∀ (f c p : Nat) (a : gdS) (H : gd_H), xn X < f + p → p ≤ xn X → MZ0 h H → (gI H 1231 3 = gI h 1231 3 ∧ gI H 1231 5 = gI h 1231 5) → ScM (gI H) a → SG a → c ≤ 60 → LSO h d (sLp X f c p a) (go gd_P0 d 182 44 [.ref 1231, .null, .int (Int32.ofNat c), .null] [] (mm H p 0))
  | 0, c, p, a, H, x0, x1, qz, h35, sm, sg, hc => absurd x0 (by omega)
  | f + 1, c, p, a, H, x0, x1, qz, h35, sm, sg, hc => by
    have hb := hb0.z qz.1 h35
    have hS := hS0.mz qz.1
    have hX : XO X := hb.2.2.2
    have hn6 : xn X ≤ 600 := hX.1
    have hm := hb.1
    have g1 := sk_ge X p
    have g2 := sk_le x1
    have sq := sk_sk x1
    obtain ⟨sB, sN⟩ := sg.1
    obtain ⟨⟨i18, i19⟩, -⟩ := id sm
    have word := m188 hb (d := d) (by omega) g2 0
    rw [sq] at word
    have hs2 : SK (mm H (sk X p) 0) := hS.mm _ _
    have wle : wix (ltr X (sk X p)) wSc ≤ 4 := wix_le _ wSc
    -- behind a fault
    have bad133 : ∀ (h' : gd_H) (k pl : Nat) (v : Int32), ME h k pl h' → pl < 100000 → LSO h d (.inl (k, pl)) (go gd_P0 d 182 133 [.ref 1231, .null, .int (Int32.ofNat c), .int v] [] h') := by
      intro h' k pl v me hpl
      have hbs := me.bs hb0.1 hpl
      exact ⟨h', by rw [s182_133, if_pos hbs.1.t, b185 hbs (by omega), gc_v, s182_137, if_pos rfl, x182e], me⟩
    have bad44 : ∀ (h' : gd_H) (k pl : Nat) (c' : Nat), ME h k pl h' → pl < 100000 → LSO h d (.inl (k, pl)) (go gd_P0 d 182 44 [.ref 1231, .null, .int (Int32.ofNat c'), .null] [] h') := by
      intro h' k pl c' me hpl
      have hbs := me.bs hb0.1 hpl
      exact ⟨h', by rw [s182_44, if_pos hbs.1.t, b185 hbs (by omega), gc_v, s182_48, if_pos rfl, x182e], me⟩
    rw [s182_44, gT_mm, if_pos hm.t, m185 hb (by omega), gc_v, s182_48, if_neg ne_1, gT_mm, if_pos hm.t, m186 hb (by omega) x1, gc_v, s182_55, sLp]
    by_cases ce : sk X p < xn X
    · have ce2 : ¬ ch X (sk X p) = 256 := by rw [ch_256 hX]; omega
      rw [if_pos ce, if_neg ne_1, if_neg ce2, gT_mm, if_pos hm.t, word, gc_v, s182_62, m190 (X := X) (sk X p) hs2 (by omega), gc_v, s182_67]
      have so := sOne_g (X := X) (c := c) sg x1
      have cc := fun r h => sOne_c (X := X) (c := c) (a := a) (p := p) (r := r) hc h
      unfold sOne at so cc ⊢
      by_cases k4 : wix (ltr X (sk X p)) wSc = 4
      · obtain ⟨h', e1, me⟩ := m192 hb (d := d) (by omega) (sk X p) 0 1 (sk X p)
        have e1 : run gd_P0 d 192 [.ref 1231, .int 1, .int (Int32.ofNat (sk X p))] (mm H (sk X p) 0) = _ := e1
        rw [if_neg (show ¬ wix (ltr X (sk X p)) wSc < 4 by omega), if_pos rfl, if_pos k4, gT_mm, if_pos hm.t, if_pos hm.t, mm_4, e1, gc_n, s182_79]
        exact bad133 h' 1 (sk X p) _ (me.mz qz) (by omega)
      · rw [if_neg k4] at so cc
        rw [if_pos (show wix (ltr X (sk X p)) wSc < 4 by omega), if_neg ne_1, if_neg k4]
        have full : LSO h d (qb (.inl (3, sk X p)) fun p' b => sLp X f (c + 1) p' b) (go gd_P0 d 182 124 [.ref 1231, .null, .int (Int32.ofNat c), .int (Int32.ofNat (wv (ltr X (sk X p))))] [] (mm H (sk X p) 0)) := by
          obtain ⟨h', e1, me⟩ := m192 hb (d := d) (by omega) (sk X p) 0 3 (sk X p)
          have e1 : run gd_P0 d 192 [.ref 1231, .int 3, .int (Int32.ofNat (sk X p))] (mm H (sk X p) 0) = _ := e1
          rw [s182_124, gT_mm, if_pos hm.t, if_pos hm.t, mm_4, e1, gc_n]
          exact bad133 h' 3 (sk X p) _ (me.mz qz) (by omega)
        generalize hk : wix (ltr X (sk X p)) wSc = k at *
        have hk4 : k < 4 := by omega
        have hw := wix_at hk hk4
        have w22 : run gd_P0 d 191 [.ref 52] (mm H (sk X p) 0) = _ := m191 hs2 (d := d) (by omega) (j := 22) (by omega)
        have w23 : run gd_P0 d 191 [.ref 54] (mm H (sk X p) 0) = _ := m191 hs2 (d := d) (by omega) (j := 23) (by omega)
        have q22 : (Int32.ofNat (wv (ltr X (sk X p))) = Int32.ofNat (wc (wds.getD 22 []))) = (k = 0) := by
          rw [wv_eq (j := 22) (by omega), hw]
          have : k = 0 ∨ k = 1 ∨ k = 2 ∨ k = 3 := by omega
          rcases this with rfl | rfl | rfl | rfl <;> decide
        have q23 : (Int32.ofNat (wv (ltr X (sk X p))) = Int32.ofNat (wc (wds.getD 23 []))) = (k = 1) := by
          rw [wv_eq (j := 23) (by omega), hw]
          have : k = 0 ∨ k = 1 ∨ k = 2 ∨ k = 3 := by omega
          rcases this with rfl | rfl | rfl | rfl <;> decide
        have e18 : gI (mm H (sk X p) 0) 1231 18 = Int32.ofNat (scB a) := (mm_j _ _ _ (by omega) (by omega)).trans i18
        have e19 : gI (mm H (sk X p) 0) 1231 19 = Int32.ofNat (scN a) := (mm_j _ _ _ (by omega) (by omega)).trans i19
        have c60 : (Int32.ofNat c = 60) = (c = 60) := j_eq (n := 60) (by omega) (by omega)
        have b6 : (Int32.ofNat (scB a) = 6) = (scB a = 6) := j_eq (n := 6) (by omega) (by omega)
        have n7 : (Int32.ofNat (scN a) = 7) = (scN a = 7) := j_eq (n := 7) (by omega) (by omega)
        simp only [c60]
        by_cases fu : sFull c k a = true
        · rw [if_pos fu]
          have fu2 := of_decide_eq_true fu
          by_cases z60 : c = 60
          · rw [if_pos z60]; exact full
          · rw [if_neg z60, w22, gc_v, s182_94]
            simp only [q22]
            by_cases k0 : k = 0
            · rw [if_pos k0, gT_mm, if_pos hm.t, e18]
              rw [if_pos (b6.mpr (by omega))]; exact full
            · rw [if_neg k0, s182_106, w23, gc_v, s182_112]
              simp only [q23]
              rw [if_pos (show k = 1 by omega), gT_mm, if_pos hm.t, e19, if_pos (n7.mpr (by omega))]; exact full
        · rw [if_neg fu] at so cc ⊢
          have fu2 : ¬ (c = 60 ∨ (k = 0 ∧ scB a = 6) ∨ (k = 1 ∧ scN a = 7)) := fun z => fu (decide_eq_true z)
          have to133 : (if c = 60 then go gd_P0 d 182 124 [.ref 1231, .null, .int (Int32.ofNat c), .int (Int32.ofNat (wv (ltr X (sk X p))))] [] (mm H (sk X p) 0) else gc gd_P0 d 182 91 94 [.ref 1231, .null, .int (Int32.ofNat c), .int (Int32.ofNat (wv (ltr X (sk X p))))] [.int (Int32.ofNat (wv (ltr X (sk X p))))] (run gd_P0 d 191 [.ref 52] (mm H (sk X p) 0))) = go gd_P0 d 182 133 [.ref 1231, .null, .int (Int32.ofNat c), .int (Int32.ofNat (wv (ltr X (sk X p))))] [] (mm H (sk X p) 0) := by
            rw [if_neg (show ¬ c = 60 by omega), w22, gc_v, s182_94]
            have to106 : go gd_P0 d 182 106 [.ref 1231, .null, .int (Int32.ofNat c), .int (Int32.ofNat (wv (ltr X (sk X p))))] [] (mm H (sk X p) 0) = go gd_P0 d 182 133 [.ref 1231, .null, .int (Int32.ofNat c), .int (Int32.ofNat (wv (ltr X (sk X p))))] [] (mm H (sk X p) 0) := by
              rw [s182_106, w23, gc_v, s182_112]
              simp only [q23]
              by_cases k1 : k = 1
              · rw [if_pos k1, gT_mm, if_pos hm.t, e19, if_neg (fun z => absurd (n7.mp z) (by omega))]
              · rw [if_neg k1]
            simp only [q22]
            by_cases k0 : k = 0
            · rw [if_pos k0, gT_mm, if_pos hm.t, e18, if_neg (fun z => absurd (b6.mp z) (by omega)), to106]
            · rw [if_neg k0, to106]
          rw [to133, s182_133, gT_mm, if_pos hm.t, m185 hb (by omega), gc_v, s182_137, if_neg ne_1, gT_mm, if_pos hm.t, m193 hb (by omega) g2, gc_n, s182_147, gT_mm, if_pos hm.t, ltr_len]
          have gw := we_le g2
          have r := m194 hb hS sm sg.1 hk4 (by
            by_cases k0 : k = 0
            · rw [if_pos k0]; omega
            · rw [if_neg k0]
              by_cases k1 : k = 1
              · rw [if_pos k1]; omega
              · rw [if_neg k1]; trivial) hw gw (d := d) (by omega)
          have gg := sCl_g (X := X) (k := k) (c := c) sg fu gw
          rw [ltr_len] at so cc
          revert r gg so cc
          rcases sCl X k a (we X (sk X p)) with ⟨kk, pl⟩ | ⟨p1, b⟩
          · rintro - - ⟨h', e, me⟩ gg
            have hpl : pl < 100000 := by have := gg.2; omega
            have hbs := me.bs hm hpl
            rw [e, gc_n, s182_152, if_pos hbs.1.t, b198 hbs (by omega), gc_n, s182_158, j_s]
            exact bad44 h' kk pl _ (me.mz qz) hpl
          · rintro so cc ⟨h1, e, q1, h35', sm1⟩ ⟨gg1, gg2, gg3⟩
            have hb1 := hb.z q1.1 h35'
            rw [e, gc_n, s182_152, gT_mm, if_pos hb1.1.t, qb_r]
            have n3 := m198 hb1 (d := d) (by omega) gg2 0 (c := 59) (by omega) (by omega)
            have g3 := tS_g (X := X) (c := 59) (by decide) gg2
            rw [qb_r] at so cc
            revert n3 g3 so cc
            rcases tS X 59 p1 with ⟨kk, pl⟩ | ⟨p2, ⟨⟩⟩
            · rintro - - ⟨h', e', me⟩ g3
              have hpl : pl < 100000 := by have := g3.2; omega
              have e' : run gd_P0 d 198 [.ref 1231, .int 59] (mm h1 p1 0) = _ := e'
              rw [e', gc_n, s182_158, j_s]
              exact bad44 h' kk pl _ ((me.mz q1).mz qz) hpl
            · intro so cc n3 g3
              have n3 : run gd_P0 d 198 [.ref 1231, .int 59] (mm h1 p1 0) = _ := n3
              rw [n3, gc_n, s182_158, j_s, qb_r]
              exact mp182 hb0 hS0 hd f (c + 1) p2 b h1 (by have := g3.1; have := we_ge X (sk X p); omega) g3.2.1 (qz.trans q1) ⟨h35'.1.trans h35.1, h35'.2.trans h35.2⟩ sm1 gg3 (cc _ rfl)
    · have ce2 : ch X (sk X p) = 256 := by rw [ch_256 hX]; omega
      rw [if_neg ce, if_pos rfl, if_pos ce2]
      exact ⟨H, x182e _ _ _ _, qz, h35, sm, sg⟩
/-- a new text's school is empty -/
theorem sp177 {h : gd_H} (hm : MS h) {d : Nat} (hd : 1 ≤ d) : ∃ I', run gd_P0 d 177 [.ref 1231] h = some (.inl none, wI h I') ∧ (∀ b, b ≠ 1231 → b ≠ 1236 → b ≠ 1237 → I' b = gI h b) ∧ (∀ j, j ≠ 18 → j ≠ 19 → I' 1231 j = gI h 1231 j) ∧ (I' 1231 18 = 0 ∧ I' 1231 19 = 0) ∧ (∀ p, p < 7 → I' 1236 p = 0) ∧ ∀ m, m < 12 → I' 1237 m = 3 := by
  obtain ⟨d, rfl⟩ : ∃ e, d = e + 1 := ⟨d - 1, by omega⟩
  generalize eI0 : up1 (up1 (gI h) 1231 18 0) 1231 19 0 = I0
  have a1 : ∀ b, b ≠ 1231 → I0 b = gI h b := fun b hb => by rw [← eI0, up1_nc _ _ _ hb, up1_nc _ _ _ hb]
  have a2 : ∀ j, j ≠ 18 → j ≠ 19 → I0 1231 j = gI h 1231 j := fun j h1 h2 => by rw [← eI0, up1_nj _ _ h2, up1_nj _ _ h1]
  have a3 : I0 1231 18 = 0 ∧ I0 1231 19 = 0 := by rw [← eI0]; simp [up1]
  have A := lp_e (fun i I => go gd_P0 d 177 12 [.ref 1231, .int (Int32.ofNat i)] [] (wI h I)) (fun i I => (∀ b, b ≠ 1236 → I b = I0 b) ∧ ∀ p, p < i → I 1236 p = 0) 7 I0 ⟨fun _ _ => rfl, fun k hk => absurd hk (Nat.not_lt_zero k)⟩ ?_
  · obtain ⟨I1, e1, b1, b2⟩ := A
    have e1 : go gd_P0 d 177 12 [.ref 1231, .int 0] [] (wI h I0) = go gd_P0 d 177 12 [.ref 1231, .int 7] [] (wI h I1) := e1
    have B := lp_e (fun i I => go gd_P0 d 177 33 [.ref 1231, .int (Int32.ofNat i)] [] (wI h I)) (fun i I => (∀ b, b ≠ 1237 → I b = I1 b) ∧ ∀ p, p < i → I 1237 p = 3) 12 I1 ⟨fun _ _ => rfl, fun k hk => absurd hk (Nat.not_lt_zero k)⟩ ?_
    · obtain ⟨I2, e2, c1, c2⟩ := B
      have e2 : go gd_P0 d 177 33 [.ref 1231, .int 0] [] (wI h I1) = go gd_P0 d 177 33 [.ref 1231, .int 12] [] (wI h I2) := e2
      refine ⟨I2, ?_, fun b x1 x2 x3 => by rw [c1 b x3, b1 b x2, a1 b x1], fun j x1 x2 => by rw [c1 _ (by omega), b1 _ (by omega), a2 j x1 x2], ?_, fun p hp => by rw [c1 _ (by omega)]; exact b2 p hp, c2⟩
      · rw [r177, s177_0, if_pos hm.t, if_pos hm.t, eI0, e1, s177_12, if_pos (by decide), e2, s177_33, if_pos (by decide)]
      · rw [c1 _ (by omega), b1 _ (by omega)]; exact a3
    · intro i hi I ⟨c1, c2⟩
      refine ⟨up1 I 1237 i 3, ?_, fun b hb => by rw [up1_nc _ _ _ hb]; exact c1 b hb, fun k hk => ?_⟩
      · try dsimp only
        rw [s177_33, if_neg (by rw [show (12 : Int32) = Int32.ofNat 12 from rfl, j_le (by omega) (by omega)]; omega), gT_wI, gR_wI, gL_wI, if_pos hm.t, m_r13 hm, m_t13 hm, m_l13 hm, if_pos ⟨rfl, by rw [j_ix (by omega) (by omega)]; exact trivial⟩, j_cl (by omega), j_s, wI_wI, gI_wI]
      · by_cases z : k = i
        · rw [z, up1_eq]
        · rw [up1_nj _ _ z]; exact c2 k (by omega)
  · intro i hi I ⟨c1, c2⟩
    refine ⟨up1 I 1236 i 0, ?_, fun b hb => by rw [up1_nc _ _ _ hb]; exact c1 b hb, fun k hk => ?_⟩
    · try dsimp only
      rw [s177_12, if_neg (by rw [show (7 : Int32) = Int32.ofNat 7 from rfl, j_le (by omega) (by omega)]; omega), gT_wI, gR_wI, gL_wI, if_pos hm.t, m_r12 hm, m_t12 hm, m_l12 hm, if_pos ⟨rfl, by rw [j_ix (by omega) (by omega)]; exact trivial⟩, j_cl (by omega), j_s, wI_wI, gI_wI]
    · by_cases z : k = i
      · rw [z, up1_eq]
      · rw [up1_nj _ _ z]; exact c2 k (by omega)
/-- the row of a school that was read -/
def rowM (I : Nat → Nat → Int32) (B N : Nat) : gdR := fun j => if j < 7 then (if j < N then I 1235 (2 * j) else 0) else if j < 14 then (if j - 7 < N then I 1235 (2 * (j - 7) + 1) else 0) else if j < 21 then -1 else if j < 28 then 0 else if j < 35 then -1 else if j < 42 then (if j - 35 < N then 1 else 0) else if j < 48 then (if j - 42 < B then I 1234 (2 * (j - 42)) else 0) else 0
theorem rowM_eq {I : Nat → Nat → Int32} {B N j : Nat} (hB : B ≤ 6) (hN : N ≤ 7) (hj : j < 50) {x : Int32} (hx : x = if 14 ≤ j ∧ j < 14 + 7 then -1 else if 28 ≤ j ∧ j < 28 + 7 then -1 else if 35 ≤ j ∧ j < 35 + 7 then (if j - 35 < N then 1 else 0) else if j < 7 then (if j < N then I 1235 (2 * j) else 0) else if 7 ≤ j ∧ j < 7 + 7 then (if j - 7 < N then I 1235 (2 * (j - 7) + 1) else 0) else 0) : (if 42 ≤ j ∧ j < 42 + B then I 1234 (2 * (j - 42)) else x) = rowM I B N j := by
  subst hx
  unfold rowM
  by_cases z0 : j < 7
  · rw [if_neg (show ¬ (42 ≤ j ∧ j < 42 + B) by omega), if_neg (show ¬ (14 ≤ j ∧ j < 14 + 7) by omega), if_neg (show ¬ (28 ≤ j ∧ j < 28 + 7) by omega), if_neg (show ¬ (35 ≤ j ∧ j < 35 + 7) by omega), if_pos z0, if_pos z0]
  by_cases z1 : j < 14
  · rw [if_neg (show ¬ (42 ≤ j ∧ j < 42 + B) by omega), if_neg (show ¬ (14 ≤ j ∧ j < 14 + 7) by omega), if_neg (show ¬ (28 ≤ j ∧ j < 28 + 7) by omega), if_neg (show ¬ (35 ≤ j ∧ j < 35 + 7) by omega), if_neg z0, if_pos (show 7 ≤ j ∧ j < 7 + 7 by omega), if_neg z0, if_pos z1]
  by_cases z2 : j < 21
  · rw [if_neg (show ¬ (42 ≤ j ∧ j < 42 + B) by omega), if_pos (show 14 ≤ j ∧ j < 14 + 7 by omega), if_neg z0, if_neg z1, if_pos z2]
  by_cases z3 : j < 28
  · rw [if_neg (show ¬ (42 ≤ j ∧ j < 42 + B) by omega), if_neg (show ¬ (14 ≤ j ∧ j < 14 + 7) by omega), if_neg (show ¬ (28 ≤ j ∧ j < 28 + 7) by omega), if_neg (show ¬ (35 ≤ j ∧ j < 35 + 7) by omega), if_neg z0, if_neg (show ¬ (7 ≤ j ∧ j < 7 + 7) by omega), if_neg z0, if_neg z1, if_neg z2, if_pos z3]
  by_cases z4 : j < 35
  · rw [if_neg (show ¬ (42 ≤ j ∧ j < 42 + B) by omega), if_neg (show ¬ (14 ≤ j ∧ j < 14 + 7) by omega), if_pos (show 28 ≤ j ∧ j < 28 + 7 by omega), if_neg z0, if_neg z1, if_neg z2, if_neg z3, if_pos z4]
  by_cases z5 : j < 42
  · rw [if_neg (show ¬ (42 ≤ j ∧ j < 42 + B) by omega), if_neg (show ¬ (14 ≤ j ∧ j < 14 + 7) by omega), if_neg (show ¬ (28 ≤ j ∧ j < 28 + 7) by omega), if_pos (show 35 ≤ j ∧ j < 35 + 7 by omega), if_neg z0, if_neg z1, if_neg z2, if_neg z3, if_neg z4, if_pos z5]
  rw [if_neg z0, if_neg z1, if_neg z2, if_neg z3, if_neg z4, if_neg z5]
  by_cases z6 : j < 48
  · rw [if_pos z6]
    by_cases y : j - 42 < B
    · rw [if_pos y, if_pos (show 42 ≤ j ∧ j < 42 + B by omega), if_neg z0]
    · rw [if_neg y, if_neg (show ¬ (42 ≤ j ∧ j < 42 + B) by omega), if_neg (show ¬ (14 ≤ j ∧ j < 14 + 7) by omega), if_neg (show ¬ (28 ≤ j ∧ j < 28 + 7) by omega), if_neg (show ¬ (35 ≤ j ∧ j < 35 + 7) by omega), if_neg z0, if_neg (show ¬ (7 ≤ j ∧ j < 7 + 7) by omega)]
  · rw [if_neg z6, if_neg (show ¬ (42 ≤ j ∧ j < 42 + B) by omega), if_neg (show ¬ (14 ≤ j ∧ j < 14 + 7) by omega), if_neg (show ¬ (28 ≤ j ∧ j < 28 + 7) by omega), if_neg (show ¬ (35 ≤ j ∧ j < 35 + 7) by omega), if_neg z0, if_neg (show ¬ (7 ≤ j ∧ j < 7 + 7) by omega)]
theorem sp178 {h : gd_H} (hm : MS h) {B N : Nat} (hB : B ≤ 6) (hN : N ≤ 7) (h18 : gI h 1231 18 = Int32.ofNat B) (h19 : gI h 1231 19 = Int32.ofNat N) {d : Nat} (hd : 2 ≤ d) : ∃ I', run gd_P0 d 178 [.ref 1231] h = some (.inl none, wI h I') ∧
    (∀ b, b ≠ 1231 → b ≠ 1238 → b ≠ 1239 → b ≠ 1240 → b ≠ 1241 → b ≠ 1250 → b ≠ 1255 → I' b = gI h b) ∧ (∀ j, j ≠ 20 → j ≠ 21 → j ≠ 28 → j ≠ 33 → j ≠ 34 → j ≠ 45 → j ≠ 56 → I' 1231 j = gI h 1231 j) ∧ (I' 1231 20 = Int32.ofNat B ∧ I' 1231 21 = Int32.ofNat N ∧ I' 1231 28 = 0 ∧ I' 1231 33 = 0 ∧ I' 1231 34 = 0 ∧ I' 1231 45 = 0 ∧ I' 1231 56 = 0) ∧
    (∀ k, k < 12 → I' 1238 k = gI h 1234 k) ∧ (∀ p, p < 7 → I' 1240 p = gI h 1236 p) ∧ (∀ m, m < 12 → I' 1241 m = gI h 1237 m) ∧ (∀ m, m < 13 → I' 1255 m = -1) ∧ ∀ j, j < 50 → I' 1250 j = rowM (gI h) B N j := by
  obtain ⟨d, rfl⟩ : ∃ e, d = e + 1 := ⟨d - 1, by omega⟩
  generalize eI0 : up1 (up1 (gI h) 1231 20 (gI h 1231 18)) 1231 21 (up1 (gI h) 1231 20 (gI h 1231 18) 1231 19) = I0
  have v19 : up1 (gI h) 1231 20 (gI h 1231 18) 1231 19 = Int32.ofNat N := by rw [up1_nj _ _ (by omega)]; exact h19
  have a1 : ∀ b, b ≠ 1231 → I0 b = gI h b := fun b hb => by rw [← eI0, up1_nc _ _ _ hb, up1_nc _ _ _ hb]
  have a2 : ∀ j, j ≠ 20 → j ≠ 21 → I0 1231 j = gI h 1231 j := fun j x1 x2 => by rw [← eI0, up1_nj _ _ x2, up1_nj _ _ x1]
  have a20 : I0 1231 20 = Int32.ofNat B := by rw [← eI0, up1_nj _ _ (by omega), up1_eq]; exact h18
  have a21 : I0 1231 21 = Int32.ofNat N := by rw [← eI0, up1_eq]; exact v19
  -- four copies
  have k1 := sp179 (h := wI h I0) (a := 1234) (b := 1238) (n := 12) (m_t10 hm) (m_t14 hm) (m_l10 hm) (m_l14 hm) (Nat.le_refl _) (Nat.le_refl _) (by omega) (by omega) 1231 (d := d) (by omega)
  have k1 : run gd_P0 d 179 [.ref 1231, .ref 1234, .ref 1238, .int 12] (wI h I0) = some (.inl none, wI h (cpy I0 1234 0 1238 0 12)) := k1
  generalize eI1 : cpy I0 1234 0 1238 0 12 = I1 at k1
  have k2 := sp179 (h := wI h I1) (a := 1235) (b := 1239) (n := 14) (m_t11 hm) (m_t15 hm) (m_l11 hm) (m_l15 hm) (Nat.le_refl _) (Nat.le_refl _) (by omega) (by omega) 1231 (d := d) (by omega)
  have k2 : run gd_P0 d 179 [.ref 1231, .ref 1235, .ref 1239, .int 14] (wI h I1) = some (.inl none, wI h (cpy I1 1235 0 1239 0 14)) := k2
  generalize eI2 : cpy I1 1235 0 1239 0 14 = I2 at k2
  have k3 := sp179 (h := wI h I2) (a := 1236) (b := 1240) (n := 7) (m_t12 hm) (m_t16 hm) (m_l12 hm) (m_l16 hm) (Nat.le_refl _) (Nat.le_refl _) (by omega) (by omega) 1231 (d := d) (by omega)
  have k3 : run gd_P0 d 179 [.ref 1231, .ref 1236, .ref 1240, .int 7] (wI h I2) = some (.inl none, wI h (cpy I2 1236 0 1240 0 7)) := k3
  generalize eI3 : cpy I2 1236 0 1240 0 7 = I3 at k3
  have k4 := sp179 (h := wI h I3) (a := 1237) (b := 1241) (n := 12) (m_t13 hm) (m_t17 hm) (m_l13 hm) (m_l17 hm) (Nat.le_refl _) (Nat.le_refl _) (by omega) (by omega) 1231 (d := d) (by omega)
  have k4 : run gd_P0 d 179 [.ref 1231, .ref 1237, .ref 1241, .int 12] (wI h I3) = some (.inl none, wI h (cpy I3 1237 0 1241 0 12)) := k4
  generalize eI4 : cpy I3 1237 0 1241 0 12 = I4 at k4
  have f4 : ∀ b, b ≠ 1238 → b ≠ 1239 → b ≠ 1240 → b ≠ 1241 → I4 b = I0 b := fun b x1 x2 x3 x4 => by rw [← eI4, cpy_ne _ x4, ← eI3, cpy_ne _ x3, ← eI2, cpy_ne _ x2, ← eI1, cpy_ne _ x1]
  have v38 : ∀ k, k < 12 → I4 1238 k = gI h 1234 k := fun k hk => by rw [← eI4, cpy_ne _ (by omega), ← eI3, cpy_ne _ (by omega), ← eI2, cpy_ne _ (by omega), ← eI1, cpy_in _ hk, a1 _ (by omega)]
  have v39 : ∀ k, k < 14 → I4 1239 k = gI h 1235 k := fun k hk => by rw [← eI4, cpy_ne _ (by omega), ← eI3, cpy_ne _ (by omega), ← eI2, cpy_in _ hk, ← eI1, cpy_ne _ (by omega), a1 _ (by omega)]
  have v40 : ∀ k, k < 7 → I4 1240 k = gI h 1236 k := fun k hk => by rw [← eI4, cpy_ne _ (by omega), ← eI3, cpy_in _ hk, ← eI2, cpy_ne _ (by omega), ← eI1, cpy_ne _ (by omega), a1 _ (by omega)]
  have v41 : ∀ k, k < 12 → I4 1241 k = gI h 1237 k := fun k hk => by rw [← eI4, cpy_in _ hk, ← eI3, cpy_ne _ (by omega), ← eI2, cpy_ne _ (by omega), ← eI1, cpy_ne _ (by omega), a1 _ (by omega)]
  clear eI1 eI2 eI3 eI4
  -- counts
  generalize eI5 : up1 (up1 (up1 (up1 (up1 I4 1231 28 0) 1231 45 0) 1231 33 0) 1231 56 0) 1231 34 0 = I5
  have b1 : ∀ b, b ≠ 1231 → I5 b = I4 b := fun b hb => by rw [← eI5, up1_nc _ _ _ hb, up1_nc _ _ _ hb, up1_nc _ _ _ hb, up1_nc _ _ _ hb, up1_nc _ _ _ hb]
  have b2 : ∀ j, j ≠ 28 → j ≠ 45 → j ≠ 33 → j ≠ 56 → j ≠ 34 → I5 1231 j = I0 1231 j := fun j x1 x2 x3 x4 x5 => by rw [← eI5, up1_nj _ _ x5, up1_nj _ _ x4, up1_nj _ _ x3, up1_nj _ _ x2, up1_nj _ _ x1, f4 _ (by omega) (by omega) (by omega) (by omega)]
  have b3 : I5 1231 28 = 0 ∧ I5 1231 33 = 0 ∧ I5 1231 34 = 0 ∧ I5 1231 45 = 0 ∧ I5 1231 56 = 0 := by rw [← eI5]; simp [up1]
  -- the book
  have A := lp_e (fun i I => go gd_P0 d 178 99 [.ref 1231, .int (Int32.ofNat i)] [] (wI h I)) (fun i I => (∀ b, b ≠ 1255 → I b = I5 b) ∧ ∀ p, p < i → I 1255 p = -1) 13 I5 ⟨fun _ _ => rfl, fun k hk => absurd hk (Nat.not_lt_zero k)⟩ ?_
  rotate_left
  · intro i hi I ⟨c1, c2⟩
    refine ⟨up1 I 1255 i (-1), ?_, fun b hb => by rw [up1_nc _ _ _ hb]; exact c1 b hb, fun k hk => ?_⟩
    · try dsimp only
      rw [s178_99, if_neg (by rw [show (12 : Int32) = Int32.ofNat 12 from rfl, j_lt (by omega) (by omega)]; omega), gT_wI, gR_wI, gL_wI, if_pos hm.t, m_r44 hm, m_t44 hm, m_l44 hm, if_pos ⟨rfl, by rw [j_ix (by omega) (by omega)]; exact trivial⟩, j_cl (by omega), j_s, wI_wI, gI_wI]
    · by_cases z : k = i
      · rw [z, up1_eq]
      · rw [up1_nj _ _ z]; exact c2 k (by omega)
  obtain ⟨I6, e6, c1, c2⟩ := A
  have e6 : go gd_P0 d 178 99 [.ref 1231, .int 0] [] (wI h I5) = go gd_P0 d 178 99 [.ref 1231, .int 13] [] (wI h I6) := e6
  -- the row wiped out
  have Bl := lp_e (fun i I => go gd_P0 d 178 120 [.ref 1231, .int (Int32.ofNat i)] [] (wI h I)) (fun i I => (∀ b, b ≠ 1250 → I b = I6 b) ∧ ∀ p, p < i → I 1250 p = 0) 50 I6 ⟨fun _ _ => rfl, fun k hk => absurd hk (Nat.not_lt_zero k)⟩ ?_
  rotate_left
  · intro i hi I ⟨c1, c2⟩
    refine ⟨up1 I 1250 i 0, ?_, fun b hb => by rw [up1_nc _ _ _ hb]; exact c1 b hb, fun k hk => ?_⟩
    · try dsimp only
      rw [s178_120, if_neg (by rw [show (50 : Int32) = Int32.ofNat 50 from rfl, j_le (by omega) (by omega)]; omega), gT_wI, gR_wI, gL_wI, if_pos hm.t, m_r38 hm, m_t38 hm, m_l38 hm, if_pos ⟨rfl, by rw [j_ix (by omega) (by omega)]; exact trivial⟩, j_cl (by omega), j_s, wI_wI, gI_wI]
    · by_cases z : k = i
      · rw [z, up1_eq]
      · rw [up1_nj _ _ z]; exact c2 k (by omega)
  obtain ⟨I7, e7, d1, d2⟩ := Bl
  have e7 : go gd_P0 d 178 120 [.ref 1231, .int 0] [] (wI h I6) = go gd_P0 d 178 120 [.ref 1231, .int 50] [] (wI h I7) := e7
  have f7 : ∀ b, b ≠ 1231 → b ≠ 1250 → b ≠ 1255 → I7 b = I4 b := fun b x1 x2 x3 => by rw [d1 b x2, c1 b x3, b1 b x1]
  have g7 : I7 1231 = I5 1231 := by rw [d1 _ (by omega), c1 _ (by omega)]
  have n21 : I7 1231 21 = Int32.ofNat N := by rw [g7, b2 21 (by omega) (by omega) (by omega) (by omega) (by omega)]; exact a21
  have n20 : I7 1231 20 = Int32.ofNat B := by rw [g7, b2 20 (by omega) (by omega) (by omega) (by omega) (by omega)]; exact a20
  have n39 : ∀ k, k < 14 → I7 1239 k = gI h 1235 k := fun k hk => by rw [f7 _ (by omega) (by omega) (by omega)]; exact v39 k hk
  have n38 : ∀ k, k < 12 → I7 1238 k = gI h 1234 k := fun k hk => by rw [f7 _ (by omega) (by omega) (by omega)]; exact v38 k hk
  -- the boys
  have C := lp_e (fun i I => go gd_P0 d 178 141 [.ref 1231, .int (Int32.ofNat i)] [] (wI h I)) (fun i I => (∀ b, b ≠ 1250 → I b = I7 b) ∧ ∀ j, j < 50 → I 1250 j = if 14 ≤ j ∧ j < 14 + i then -1 else if 28 ≤ j ∧ j < 28 + i then -1 else if 35 ≤ j ∧ j < 35 + i then (if j - 35 < N then 1 else 0) else if j < i then (if j < N then gI h 1235 (2 * j) else 0) else if 7 ≤ j ∧ j < 7 + i then (if j - 7 < N then gI h 1235 (2 * (j - 7) + 1) else 0) else 0) 7 I7 ⟨fun _ _ => rfl, fun j hj => by rw [d2 j hj, if_neg (by omega), if_neg (by omega), if_neg (by omega), if_neg (by omega), if_neg (by omega)]⟩ ?_
  rotate_left
  · intro i hi I ⟨c1, c2⟩
    have J21 : ∀ {I2 : Nat → Nat → Int32}, I2 1231 = I7 1231 → I2 1231 21 = Int32.ofNat N := fun {I2} e => by rw [e]; exact n21
    have J21a : up1 (up1 I 1250 (14 + i) (-1)) 1250 (28 + i) (-1) 1231 21 = Int32.ofNat N := J21 (by rw [up1_nc _ _ _ (by omega), up1_nc _ _ _ (by omega)]; exact c1 _ (by omega))
    have ix : ∀ z, z < 50 → ((31 : Nat) = 31 ∧ ¬ (Int32.ofNat z < 0 ∨ 50 ≤ (Int32.ofNat z).toNatClampNeg)) := fun z hz => ⟨rfl, by rw [j_ix (by omega) hz]; exact trivial⟩
    have ix4 : ∀ z, z < 14 → ((31 : Nat) = 31 ∧ ¬ (Int32.ofNat z < 0 ∨ 14 ≤ (Int32.ofNat z).toNatClampNeg)) := fun z hz => ⟨rfl, by rw [j_ix (by omega) hz]; exact trivial⟩
    have p14 : (14 : Int32) + Int32.ofNat i = Int32.ofNat (14 + i) := j_add 14 i
    have p28 : (28 : Int32) + Int32.ofNat i = Int32.ofNat (28 + i) := j_add 28 i
    have p35 : (35 : Int32) + Int32.ofNat i = Int32.ofNat (35 + i) := j_add 35 i
    have p0 : (0 : Int32) + Int32.ofNat i = Int32.ofNat i := Int32.zero_add _
    have p7 : (7 : Int32) + Int32.ofNat i = Int32.ofNat (7 + i) := j_add 7 i
    have p2 : (2 : Int32) * Int32.ofNat i = Int32.ofNat (2 * i) := j_mul 2 i
    have le : (Int32.ofNat N ≤ Int32.ofNat i) = (N ≤ i) := j_le (by omega) (by omega)
    refine ⟨up1 (up1 (up1 (up1 (up1 I 1250 (14 + i) (-1)) 1250 (28 + i) (-1)) 1250 (35 + i) (if i < N then 1 else 0)) 1250 i (if i < N then gI h 1235 (2 * i) else 0)) 1250 (7 + i) (if i < N then gI h 1235 (2 * i + 1) else 0), ?_, fun b hb => by rw [up1_nc _ _ _ hb, up1_nc _ _ _ hb, up1_nc _ _ _ hb, up1_nc _ _ _ hb, up1_nc _ _ _ hb]; exact c1 b hb, fun j hj => ?_⟩
    · try dsimp only
      rw [s178_141, if_neg (by rw [show (7 : Int32) = Int32.ofNat 7 from rfl, j_le (by omega) (by omega)]; omega), gT_wI, gR_wI, gL_wI, if_pos hm.t, m_r38 hm, m_t38 hm, m_l38 hm, p14, p28, if_pos (ix (14 + i) (by omega)), if_pos hm.t, if_pos (ix (28 + i) (by omega)), if_pos hm.t, if_pos hm.t, j_cl (by omega), j_cl (by omega), p35, wI_wI, gI_wI, J21a]
      simp only [le]
      generalize eJ2 : up1 (up1 I 1250 (14 + i) (-1)) 1250 (28 + i) (-1) = J2
      have j2 : ∀ b, b ≠ 1250 → J2 b = I7 b := fun b hb => by rw [← eJ2, up1_nc _ _ _ hb, up1_nc _ _ _ hb]; exact c1 b hb
      have J21b : ∀ k v, up1 J2 1250 k v 1231 21 = Int32.ofNat N := fun k v => J21 (by rw [up1_nc _ _ _ (by omega)]; exact j2 _ (by omega))
      have J21c : ∀ k v k' v', up1 (up1 J2 1250 k v) 1250 k' v' 1231 21 = Int32.ofNat N := fun k v k' v' => J21 (by rw [up1_nc _ _ _ (by omega), up1_nc _ _ _ (by omega)]; exact j2 _ (by omega))
      by_cases c : N ≤ i
      · rw [if_pos c, s178_188, gT_wI, gR_wI, gL_wI, m_t38 hm, m_l38 hm, if_pos (ix (35 + i) (by omega)), if_pos hm.t, if_pos hm.t, j_cl (by omega), gI_wI, J21b]
        simp only [le]
        rw [if_pos c, p0, m_r38 hm, wI_wI, s178_216, gT_wI, gR_wI, gL_wI, m_t38 hm, m_l38 hm, if_pos (ix i (by omega)), if_pos hm.t, if_pos hm.t, j_cl (by omega), gI_wI, J21c]
        simp only [le]
        rw [if_pos c, p7, m_r38 hm, wI_wI, s178_247, gT_wI, gL_wI, m_t38 hm, m_l38 hm, if_pos (ix (7 + i) (by omega)), j_cl (by omega), gI_wI, wI_wI, j_s, if_neg (show ¬ i < N by omega), if_neg (show ¬ i < N by omega), if_neg (show ¬ i < N by omega)]
      · rw [if_neg c, s178_188, gT_wI, gR_wI, gL_wI, m_t38 hm, m_l38 hm, if_pos (ix (35 + i) (by omega)), if_pos hm.t, if_pos hm.t, j_cl (by omega), gI_wI, J21b]
        simp only [le]
        rw [if_neg c, if_pos hm.t, m_r15 hm, m_t15 hm, m_l15 hm, p2, if_pos (ix4 (2 * i) (by omega)), j_cl (by omega), up1_nc (b := 1239) _ _ _ (by omega), j2 1239 (by omega), n39 (2 * i) (by omega), p0, m_r38 hm, wI_wI, s178_216, gT_wI, gR_wI, gL_wI, m_t38 hm, m_l38 hm, if_pos (ix i (by omega)), if_pos hm.t, if_pos hm.t, j_cl (by omega), gI_wI, J21c]
        simp only [le]
        rw [if_neg c, if_pos hm.t, m_r15 hm, m_t15 hm, m_l15 hm, p2, j_s, if_pos (ix4 (2 * i + 1) (by omega)), j_cl (by omega), up1_nc (b := 1239) _ _ _ (by omega), up1_nc (b := 1239) _ _ _ (by omega), j2 1239 (by omega), n39 (2 * i + 1) (by omega), p7, m_r38 hm, wI_wI, s178_247, gT_wI, gL_wI, m_t38 hm, m_l38 hm, if_pos (ix (7 + i) (by omega)), j_cl (by omega), gI_wI, wI_wI, j_s, if_pos (show i < N by omega), if_pos (show i < N by omega), if_pos (show i < N by omega)]
    · have c2 := c2 j hj
      by_cases y1 : j = 7 + i
      · subst y1
        rw [up1_eq, if_neg (show ¬ (14 ≤ 7 + i ∧ 7 + i < 14 + (i + 1)) by omega), if_neg (show ¬ (28 ≤ 7 + i ∧ 7 + i < 28 + (i + 1)) by omega), if_neg (show ¬ (35 ≤ 7 + i ∧ 7 + i < 35 + (i + 1)) by omega), if_neg (show ¬ 7 + i < i + 1 by omega), if_pos (show 7 ≤ 7 + i ∧ 7 + i < 7 + (i + 1) by omega), show 7 + i - 7 = i by omega]
      rw [up1_nj _ _ y1]
      by_cases y2 : j = i
      · subst y2
        rw [up1_eq, if_neg (show ¬ (14 ≤ j ∧ j < 14 + (j + 1)) by omega), if_neg (show ¬ (28 ≤ j ∧ j < 28 + (j + 1)) by omega), if_neg (show ¬ (35 ≤ j ∧ j < 35 + (j + 1)) by omega), if_pos (show j < j + 1 by omega)]
      rw [up1_nj _ _ y2]
      by_cases y3 : j = 35 + i
      · subst y3
        rw [up1_eq, if_neg (show ¬ (14 ≤ 35 + i ∧ 35 + i < 14 + (i + 1)) by omega), if_neg (show ¬ (28 ≤ 35 + i ∧ 35 + i < 28 + (i + 1)) by omega), if_pos (show 35 ≤ 35 + i ∧ 35 + i < 35 + (i + 1) by omega), show 35 + i - 35 = i by omega]
      rw [up1_nj _ _ y3]
      by_cases y4 : j = 28 + i
      · subst y4
        rw [up1_eq, if_neg (by omega), if_pos (by omega)]
      rw [up1_nj _ _ y4]
      by_cases y5 : j = 14 + i
      · subst y5
        rw [up1_eq, if_pos (by omega)]
      rw [up1_nj _ _ y5, c2]
      have s1 : (14 ≤ j ∧ j < 14 + (i + 1)) = (14 ≤ j ∧ j < 14 + i) := propext (by omega)
      have s2 : (28 ≤ j ∧ j < 28 + (i + 1)) = (28 ≤ j ∧ j < 28 + i) := propext (by omega)
      have s3 : (35 ≤ j ∧ j < 35 + (i + 1)) = (35 ≤ j ∧ j < 35 + i) := propext (by omega)
      have s4 : (j < i + 1) = (j < i) := propext (by omega)
      have s5 : (7 ≤ j ∧ j < 7 + (i + 1)) = (7 ≤ j ∧ j < 7 + i) := propext (by omega)
      simp only [s1, s2, s3, s4, s5]
  obtain ⟨I8, e8, g1, g2⟩ := C
  have e8 : go gd_P0 d 178 141 [.ref 1231, .int 0] [] (wI h I7) = go gd_P0 d 178 141 [.ref 1231, .int 7] [] (wI h I8) := e8
  -- the boards
  have Dl := lp_e (fun i I => go gd_P0 d 178 256 [.ref 1231, .int (Int32.ofNat i)] [] (wI h I)) (fun i I => (∀ b, b ≠ 1250 → I b = I7 b) ∧ ∀ j, j < 50 → I 1250 j = if 42 ≤ j ∧ j < 42 + i then gI h 1234 (2 * (j - 42)) else I8 1250 j) B I8 ⟨g1, fun j hj => by rw [if_neg (by omega)]⟩ ?_
  rotate_left
  · intro i hi I ⟨c1, c2⟩
    have J20 : I 1231 20 = Int32.ofNat B := by rw [c1 _ (by omega)]; exact n20
    have p2 : (2 : Int32) * Int32.ofNat i = Int32.ofNat (2 * i) := j_mul 2 i
    have p42 : (42 : Int32) + Int32.ofNat i = Int32.ofNat (42 + i) := j_add 42 i
    refine ⟨up1 I 1250 (42 + i) (gI h 1234 (2 * i)), ?_, fun b hb => by rw [up1_nc _ _ _ hb]; exact c1 b hb, fun j hj => ?_⟩
    · try dsimp only
      rw [s178_256, gT_wI, gR_wI, gL_wI, if_pos hm.t, gI_wI, J20, if_neg (by rw [j_le (by omega) (by omega)]; omega), if_pos hm.t, if_pos hm.t, m_r14 hm, m_t14 hm, m_l14 hm, m_r38 hm, m_t38 hm, m_l38 hm, p2, p42, if_pos ⟨rfl, by rw [j_ix (by omega) (by omega)]; exact trivial⟩, if_pos ⟨rfl, by rw [j_ix (by omega) (by omega)]; exact trivial⟩, j_cl (by omega), j_cl (by omega), c1 1238 (by omega), n38 (2 * i) (by omega), j_s, wI_wI]
    · by_cases y : j = 42 + i
      · subst y; rw [up1_eq, if_pos (by omega), show 42 + i - 42 = i by omega]
      · rw [up1_nj _ _ y, c2 j hj]
        have s1 : (42 ≤ j ∧ j < 42 + (i + 1)) = (42 ≤ j ∧ j < 42 + i) := propext (by omega)
        simp only [s1]
  obtain ⟨I9, e9, u1, u2⟩ := Dl
  have e9 : go gd_P0 d 178 256 [.ref 1231, .int 0] [] (wI h I8) = go gd_P0 d 178 256 [.ref 1231, .int (Int32.ofNat B)] [] (wI h I9) := e9
  have q9 : I9 1231 = I5 1231 := by rw [u1 _ (by omega)]; exact g7
  refine ⟨I9, ?_, fun b x1 x2 x3 x4 x5 x6 x7 => by rw [u1 b x6, f7 b x1 x6 x7, f4 b x2 x3 x4 x5, a1 b x1], fun j x1 x2 x3 x4 x5 x6 x7 => by rw [q9, b2 j x3 x6 x4 x7 x5, a2 j x1 x2], ⟨?_, ?_, ?_, ?_, ?_, ?_, ?_⟩, fun k hk => by rw [u1 _ (by omega)]; exact n38 k hk, fun p hp => by rw [u1 _ (by omega), f7 _ (by omega) (by omega) (by omega)]; exact v40 p hp, fun m hm => by rw [u1 _ (by omega), f7 _ (by omega) (by omega) (by omega)]; exact v41 m hm, fun m hm => by rw [u1 _ (by omega), d1 _ (by omega)]; exact c2 m hm, fun j hj => ?_⟩
  · have t0 : ∀ I, gT (wI h I) 1231 = 8 := fun _ => hm.t
    rw [r178, s178_0, if_pos hm.t, if_pos hm.t, if_pos hm.t, if_pos hm.t, if_pos hm.t, if_pos hm.t, if_pos hm.t, eI0, m_r10 hm, m_r14 hm, k1, gc_n, s178_30, gT_wI, gR_wI, if_pos hm.t, if_pos hm.t, if_pos hm.t, m_r11 hm, m_r15 hm, k2, gc_n, s178_44, gT_wI, gR_wI, if_pos hm.t, if_pos hm.t, if_pos hm.t, m_r12 hm, m_r16 hm, k3, gc_n, s178_58, gT_wI, gR_wI, if_pos hm.t, if_pos hm.t, if_pos hm.t, m_r13 hm, m_r17 hm, k4, gc_n, s178_72, gT_wI, if_pos hm.t, if_pos hm.t, if_pos hm.t, if_pos hm.t, if_pos hm.t, wI_wI, gI_wI, eI5, e6, s178_99, if_pos (by decide), e7, s178_120, if_pos (by decide), e8, s178_141, if_pos (by decide), e9, s178_256, gT_wI, if_pos hm.t, gI_wI, show I9 1231 20 = Int32.ofNat B by rw [u1 _ (by omega)]; exact n20, if_pos (Int32.le_refl _)]
  · rw [u1 _ (by omega)]; exact n20
  · rw [u1 _ (by omega)]; exact n21
  · rw [q9]; exact b3.1
  · rw [q9]; exact b3.2.1
  · rw [q9]; exact b3.2.2.1
  · rw [q9]; exact b3.2.2.2.1
  · rw [q9]; exact b3.2.2.2.2
  · rw [u2 j hj]
    exact rowM_eq hB hN hj (g2 j hj)
/-- the school is laid down -/
theorem MI.sch {h : gd_H} {D : gdD} {b : gdS} (hi : MI h D) (sg : SG b) {G : gd_H} (qG : MZ (bgn h 0) G ∨ ∃ n, MZ (bgn h n) G) (sm : ScM (gI G) b) (g8 : gI G 1231 8 = -1) {d : Nat} (hd : 2 ≤ d) : ∃ h', run gd_P0 d 178 [.ref 1231] G = some (.inl none, h') ∧ MI h' (dSch D b) ∧ FM G h' ∧ gI h' 1231 0 = gI G 1231 0 := by
  obtain ⟨n, q⟩ : ∃ n, MZ (bgn h n) G := by
    rcases qG with q | q
    · exact ⟨0, q⟩
    · exact q
  obtain ⟨⟨i18, i19⟩, iT, iH, iK, iR⟩ := sm
  obtain ⟨⟨sB, sN⟩, sgT, sgH, sgR⟩ := sg
  have hmG : MS G := (show MS (bgn h n) from hi.1).mz q
  obtain ⟨I', e, c1, c2, ⟨v20, v21, v28, v33, v34, v45, v56⟩, v38, v40, v41, v55, vrow⟩ := sp178 hmG sB sN i18 i19 hd
  obtain ⟨f0, f2, -⟩ := bgn_f h n
  obtain ⟨hm, hBN, ⟨i1, i2, i3⟩, i4, i5, i6, i7, i8, ⟨i9, i9'⟩, ⟨i10, i11, i12⟩, ⟨t1, t2, t3⟩, fa, ⟨b1, b2, b3⟩, rs, ⟨r0, r1⟩, lw⟩ := hi
  obtain ⟨I2, J2, eG, hI, hj, -⟩ := id q
  have gG : gI G = I2 := by rw [eG]; rfl
  refine ⟨wI G I', e, ⟨hmG.wI _, ⟨sB, sN⟩, ⟨v20, v21, ?_⟩, fun k hk => ?_, fun p hp => ?_, fun m hm => ?_, fun j hj => ?_, fun k hk => absurd hk (Nat.not_lt_zero k), ⟨v33, Nat.zero_le _⟩, ⟨v56, Nat.zero_le _, fun i hi => absurd hi (Nat.not_lt_zero i)⟩, ⟨?_, Nat.zero_le _, fun j hj => absurd hj (Nat.not_lt_zero j)⟩, ?_, ⟨v45, Nat.zero_le _, fun m hm => v55 m hm⟩, v34, ⟨?_, ?_⟩, ⟨[], Nat.zero_le _, v28, fun k x hk => (by cases hk), Or.inl ⟨rfl, rfl⟩⟩⟩, FM.wI _ _ fun q hq => c1 q (by omega) (by omega) (by omega) (by omega) (by omega) (by omega) (by omega), c2 0 (by omega) (by omega) (by omega) (by omega) (by omega) (by omega) (by omega)⟩
  · show I' 1231 42 = -1
    rw [c2 42 (by omega) (by omega) (by omega) (by omega) (by omega) (by omega) (by omega), gG, hj 42 (by decide), bgn_j h n (by omega)]
    exact i3
  · have hk : k < scB b := hk
    exact ⟨(v38 (2 * k) (by omega)).trans (iT k hk).1, (v38 (2 * k + 1) (by omega)).trans (iT k hk).2⟩
  · exact (v40 p hp).trans (iK p hp)
  · exact (v41 m hm).trans (iR m hm)
  · refine (vrow j hj).trans ?_
    show rowM (gI G) (scB b) (scN b) j = rSch b j
    unfold rowM rSch
    by_cases z0 : j < 7
    · rw [if_pos z0, if_pos z0]
      by_cases y : j < scN b
      · rw [if_pos y]; exact (iH j y).1
      · rw [if_neg y]; exact ((sgH j).2 (by omega)).1.symm
    rw [if_neg z0, if_neg z0]
    by_cases z1 : j < 14
    · rw [if_pos z1, if_pos z1]
      by_cases y : j - 7 < scN b
      · rw [if_pos y]; exact (iH (j - 7) y).2
      · rw [if_neg y]; exact ((sgH (j - 7)).2 (by omega)).2.symm
    rw [if_neg z1, if_neg z1]
    by_cases z2 : j < 21
    · rw [if_pos z2, if_pos z2]
    rw [if_neg z2, if_neg z2]
    by_cases z3 : j < 28
    · rw [if_pos z3, if_pos z3]
    rw [if_neg z3, if_neg z3]
    by_cases z4 : j < 35
    · rw [if_pos z4, if_pos z4]
    rw [if_neg z4, if_neg z4]
    by_cases z5 : j < 42
    · rw [if_pos z5, if_pos z5]
    rw [if_neg z5, if_neg z5]
    by_cases z6 : j < 48
    · rw [if_pos z6, if_pos z6]
      by_cases y : j - 42 < scB b
      · rw [if_pos y]; exact (iT (j - 42) y).1
      · rw [if_neg y]; exact ((sgT (j - 42)).2 (by omega)).symm
    · rw [if_neg z6, if_neg z6]
  · show I' 1231 2 = Int32.ofNat 0
    rw [c2 2 (by omega) (by omega) (by omega) (by omega) (by omega) (by omega) (by omega), gG, hj 2 (by decide)]
    exact f2
  · exact (c2 8 (by omega) (by omega) (by omega) (by omega) (by omega) (by omega) (by omega)).trans g8
  · show I' 1232 0 = _
    rw [c1 1232 (by omega) (by omega) (by omega) (by omega) (by omega) (by omega) (by omega), gG, hI 1232 (by unfold mper; omega), bgn_b h n (by omega)]
    exact r0
  · show I' 1232 1 = _
    rw [c1 1232 (by omega) (by omega) (by omega) (by omega) (by omega) (by omega) (by omega), gG, hI 1232 (by unfold mper; omega), bgn_b h n (by omega)]
    exact r1
theorem sLp_g {X : gdX} : ∀ (f c p : Nat) (a : gdS), SG a → p ≤ xn X → (∀ k pl, sLp X f c p a = .inl (k, pl) → pl ≤ xn X) ∧ ∀ p' b, sLp X f c p a = .inr (p', b) → SG b
  | 0, c, p, a, sg, hp => ⟨fun k pl e => (by cases e), fun p' b e => by cases e; exact sg⟩
  | f + 1, c, p, a, sg, hp => by
    rw [sLp]
    split
    · exact ⟨fun k pl e => (by cases e), fun p' b e => by cases e; exact sg⟩
    · have g := sOne_g (X := X) (c := c) sg hp
      revert g
      rcases sOne X c a p with ⟨kk, pl⟩ | ⟨p1, b⟩
      · intro g
        exact ⟨fun k pl' e => by cases e; exact g.2, fun p' b e => (by cases e)⟩
      · rintro ⟨g1, g2, g3⟩
        exact sLp_g f (c + 1) p1 b g3 g2
theorem m182 {D : gdD} {n : Nat} (hn : n ≤ dFed D) : MDo 182 [.int (Int32.ofNat n)] D (SD D (sSch (txt D n))).1 (SD D (sSch (txt D n))).2 := by
  intro d h hd hi hD hS
  obtain ⟨d, rfl⟩ : ∃ e, d = e + 1 := ⟨d - 1, by omega⟩
  obtain ⟨hm, -, -, -, -, -, -, -, -, -, ⟨t1, t2, t3⟩, -⟩ := id hi
  obtain ⟨f0, f2, f8, f3, f4, f5, f7⟩ := bgn_f h n
  have hX := txt_o hD hn t2
  have hb0 := bgn_MB hi hD hn
  have hS0 : SK (bgn h n) := hS.fm (bgn_fm h n)
  obtain ⟨I', e177, c1, c2, ⟨v18, v19⟩, v36, v37⟩ := sp177 (h := bgn h n) hb0.1 (d := d) (by omega)
  have qz : MZ0 (bgn h n) (wI (bgn h n) I') := by
    refine ⟨⟨I', gJ (bgn h n), rfl, fun b hb => c1 b (by unfold mper at hb; omega) (by unfold mper at hb; omega) (by unfold mper at hb; omega), fun j hj => c2 j (fun z => by rw [z] at hj; exact absurd hj (by decide)) (fun z => by rw [z] at hj; exact absurd hj (by decide)), fun _ _ => rfl⟩, c2 0 (by omega) (by omega)⟩
  have h35 : gI (wI (bgn h n) I') 1231 3 = gI (bgn h n) 1231 3 ∧ gI (wI (bgn h n) I') 1231 5 = gI (bgn h n) 1231 5 := ⟨c2 3 (by omega) (by omega), c2 5 (by omega) (by omega)⟩
  have eM : mm (wI (bgn h n) I') 0 0 = wI (bgn h n) I' := mm_self ((c2 4 (by omega) (by omega)).trans f4) ((c2 7 (by omega) (by omega)).trans f7)
  have sm0 : ScM (gI (wI (bgn h n) I')) s0 := ⟨⟨v18, v19⟩, fun k hk => absurd hk (Nat.not_lt_zero k), fun k hk => absurd hk (Nat.not_lt_zero k), v36, v37⟩
  have out := mp182 hb0 hS0 (d := d) (by omega) (n + 1) 0 0 s0 (wI (bgn h n) I') (by show n < _; omega) (Nat.zero_le _) qz h35 sm0 s0_g (by omega)
  rw [eM] at out
  have E : run gd_P0 (d + 1) 182 [.ref 1231, .int (Int32.ofNat n)] h = go gd_P0 d 182 44 [.ref 1231, .null, .int (Int32.ofNat 0), .null] [] (wI (bgn h n) I') := by
    have z1 : ¬ Int32.ofNat n < 0 := by rw [j_neg (by omega)]; exact fun z => z
    have z2 : ¬ (up1 (gI h) 1231 0 0 1231 2) < Int32.ofNat n := by rw [up1_nj _ _ (by omega), t1, j_lt (by omega) (by omega)]; omega
    rw [r182, s182_0, if_pos hm.t, if_neg z1, if_pos hm.t, if_neg z2, s182_23, gT_wI, if_pos hm.t, sp183 (hm.wI _) (by rw [gI_wI, up1_eq]) (by omega), gc_v, s182_28, if_neg ne_1, gT_wI, if_pos hm.t, sp184 hm n (by omega), gc_n, s182_38, if_pos hb0.1.t, e177, gc_n, s182_42]
    rfl
  rw [E]
  show ∃ h', go gd_P0 d 182 44 [.ref 1231, .null, .int (Int32.ofNat 0), .null] [] (wI (bgn h n) I') = some (.inl (some (SD D (sLp (txt D n) (n + 1) 0 0 s0)).1), h') ∧ MI h' (SD D (sLp (txt D n) (n + 1) 0 0 s0)).2 ∧ FM h h' ∧ gI h' 1231 0 = 0
  revert out
  have hpl' := (sLp_g (X := txt D n) (n + 1) 0 0 s0 s0_g (Nat.zero_le _)).1
  rcases hr : sLp (txt D n) (n + 1) 0 0 s0 with ⟨k, pl⟩ | ⟨p, b⟩
  · rintro ⟨h', e, me⟩
    have hpl2 := hpl' k pl hr
    have hX6 := hX.1
    have hbs : BS h' := me.bs hb0.1 (by omega)
    refine ⟨wI h' (up1 (gI h') 1231 8 (Int32.ofNat pl)), ?_, hi.f0 me.1.1 (Int32.ofNat pl), (bgn_fm h n).trans (me.1.1.fm.trans (FM.wI _ _ (fun b hb => up1_nc _ _ _ (by omega)))), ?_⟩
    · have n5 : ¬ gI (wI h' (up1 (gI h') 1231 8 (Int32.ofNat pl))) 1231 5 = -1 := by rw [gI_wI, up1_nj _ _ (by omega)]; exact hbs.2
      rw [e, s182_164, if_pos hbs.1.t, if_pos hbs.1.t, sp199 hbs me.2.1 me.2.2 (by omega), gc_v, s182_172, if_pos (hbs.1.wI _).t, if_neg n5, s182_185]
      rfl
    · rw [gI_wI, up1_nj _ _ (by omega), me.1.2]; exact f0
  · rintro ⟨h2, e, qz2, h35', sm, sg⟩
    have hb2 := hb0.z qz2.1 h35'
    have w8 : gI h2 1231 8 = -1 := by
      obtain ⟨I2, J2, rfl, -, hj, -⟩ := qz2.1
      exact (hj 8 (by decide)).trans f8
    have e19 : gI (mm h2 p 0) 1231 19 = Int32.ofNat (scN b) := (mm_j _ _ _ (by omega) (by omega)).trans sm.1.2
    rw [e, s182_164, gT_mm, if_pos hb2.1.t, if_pos hb2.1.t, e19, sp199g hb2 _ _ w8 (by omega), gc_v, s182_172]
    generalize eG : mm h2 p 0 = G
    have mG : MS G := by rw [← eG]; exact hb2.1
    have Gb : ∀ b, b ≠ 1231 → gI G b = gI h2 b := fun b hb => by rw [← eG]; exact mm_b _ _ _ hb
    have Gj : ∀ j, j ≠ 4 → j ≠ 7 → gI G 1231 j = gI h2 1231 j := fun j j1 j2 => by rw [← eG]; exact mm_j _ _ _ j1 j2
    have qG : MZ0 (bgn h n) G := by rw [← eG]; exact qz2.trans (MZ0.mm _ _ _)
    have smG : ScM (gI G) b := by
      obtain ⟨⟨x1, x2⟩, x3, x4, x5, x6⟩ := sm
      exact ⟨⟨(Gj 18 (by omega) (by omega)).trans x1, (Gj 19 (by omega) (by omega)).trans x2⟩, by rw [Gb 1234 (by omega)]; exact x3, by rw [Gb 1235 (by omega)]; exact x4, by rw [Gb 1236 (by omega)]; exact x5, by rw [Gb 1237 (by omega)]; exact x6⟩
    obtain ⟨h5, e5, m5, f5', z5⟩ := hi.sch sg (G := G) (Or.inr ⟨n, qG.1⟩) smG ((Gj 8 (by omega) (by omega)).trans w8) (d := d) (by omega)
    refine ⟨h5, ?_, m5, (bgn_fm h n).trans (qG.1.fm.trans f5'), ?_⟩
    · rw [if_pos mG.t, if_pos ((Gj 5 (by omega) (by omega)).trans hb2.2.1.2), if_pos mG.t, e5, gc_n, s182_185]
      rfl
    · rw [z5, qG.2]; exact f0
theorem m182n {D : gdD} {v : Int32} (hf : dFed D ≤ 600) (hv : v < 0 ∨ Int32.ofNat (dFed D) < v) : MNo 182 [.int v] D 25 1 (.int 0) := by
  intro d h hd hi hD
  obtain ⟨d, rfl⟩ : ∃ e, d = e + 1 := ⟨d - 1, by omega⟩
  obtain ⟨hm, -, -, -, -, -, -, -, -, -, ⟨t1, t2, t3⟩, -⟩ := id hi
  have e183 := sp183n (h := wI h (up1 (gI h) 1231 0 0)) (hm.wI _) (by rw [gI_wI, up1_eq]) (d := d) (by omega) (c := 1) (by decide) 25 (by omega) (by omega)
  rw [mthr_z] at e183
  have E : go gd_P0 d 182 22 [.ref 1231, .int v, .null, .null] [.ref 1231] (wI h (up1 (gI h) 1231 0 0)) = some (.inl (some (.int 0)), mthr 25 1 h) := by
    rw [s182_22, s182_23, gT_wI, if_pos hm.t]
    refine Eq.trans (congrArg (gc gd_P0 d 182 25 28 _ _) e183) ?_
    rw [gc_v, s182_28, if_pos rfl]
  rw [r182, s182_0, if_pos hm.t]
  by_cases c1 : v < 0
  · rw [if_pos c1]; exact E
  rw [if_neg c1, if_pos hm.t, up1_nj _ _ (by omega), t1, if_pos (hv.resolve_left c1)]; exact E
theorem SD_i {D : gdD} (hD : DI D) {n : Nat} : DI (SD D (sSch (txt D n))).2 := by
  obtain ⟨-, g⟩ := sLp_g (X := txt D n) (n + 1) 0 0 s0 s0_g (Nat.zero_le _)
  show DI (SD D (sLp (txt D n) (n + 1) 0 0 s0)).2
  revert g
  rcases sLp (txt D n) (n + 1) 0 0 s0 with ⟨k, pl⟩ | ⟨p, b⟩
  · intro _; exact hD.f0 _
  · intro g; exact dSch_i D (g p b rfl)

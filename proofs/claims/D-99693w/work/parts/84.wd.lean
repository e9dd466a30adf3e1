/-! ===== WORK: the class reads a step, its walk ===== -/
set_option maxRecDepth 100000
theorem k_m1 : ∀ k, k < 8 → ¬ Int32.ofNat k = (-1 : Int32) := by decide
theorem spY {X : gdX} {E : gdE} {o dm : Nat} {big : Bool} {S : Nat → gdQ gdY} (hdm : 6 ≤ dm) (h15 : xn X ≤ 150) (ho : big = false → o = 6) (hS1 : big = true → o < 6 ∧ AVs X E o S dm) : YVs X E o (wUb X E big S) (dm + 1) := by
  intro d h ρ κ ω σ p hd hb hS hw hp
  obtain ⟨d, rfl⟩ : ∃ e, d = e + 1 := ⟨d - 1, by omega⟩
  have hX : XO X := hb.2.2.2.2
  have hρ := hb.2.2.2.1
  have g1 := sk_ge X p
  have g2 := sk_le hp
  have sq := sk_sk hp
  have tr : gT h ρ = 10 := hb.1.1
  have gl := ltr_len X (sk X p)
  have gw := we_le g2
  obtain ⟨⟨tk, r0, r1, r2⟩, ⟨tω, lω, sω⟩, ⟨tσ, i6, i7⟩, ⟨lκ, lo, ls, oρ, σρ⟩, eB6, eN7⟩ := id hw
  have e100 := sp100 hb hS oρ tω (b := 14) (ws := wWk) lω (by decide) (by decide) (by decide) (fun i hi => ⟨sω i hi, (show ∀ i, i < 8 → wds.getD (14 + i) [] = wWk.getD i [] from by decide) i hi⟩) (d := d) (by omega) hp o
  have w8 := wix_le (ltr X (sk X p)) wWk
  have l8 : wWk.length = 8 := rfl
  rw [l8] at w8 e100
  rw [r125, s125_0, gT_rz, if_pos tk, if_pos tk, gR_rz, r1, if_pos tr, r0, e100, gc_v, s125_11]
  unfold wUb
  by_cases c8 : wix (ltr X (sk X p)) wWk = 8
  · rw [if_pos c8, if_neg (show ¬ wix (ltr X (sk X p)) wWk < 8 by omega), if_pos rfl]
    have kn := Ke.nw h 11 0 8 (by omega)
    have hw1 := hw.ke kn
    have hb1 := hb.ke kn
    obtain ⟨h2, e2, w⟩ := wfl hb kn (a := gS h) (by rw [gT_nw, if_pos rfl]) (Nat.le_refl _) 1 (sk X p) (sk X p) o (d := d) (by omega)
    have e2 : run gd_P0 d 111 [.ref (gS h), .int 1, .int (Int32.ofNat (sk X p))] (rz (nw h 11 0 8) ρ (sk X p) o) = _ := e2
    rw [nw_rz h _ _ _ _ _ hρ.2, gS_rz, s125_20, gT_rz, if_pos hw1.1.1, gR_rz, hw1.1.2.2.1, if_pos hb1.1.1, sp99 hb1 (by omega) g2, gc_v, sq, s125_29, gT_rz, if_pos (by rw [gT_nw, if_pos rfl]), e2, gc_n, s125_32, if_pos w.1.1, gxw rfl w.1.2.1]
    exact ⟨gS h, h2, rfl, ⟨w.1, w.2.up (by omega)⟩⟩
  have hne : ltr X (sk X p) ≠ [] := fun e => c8 (by rw [e]; decide)
  have hne2 := ltr_ne hne
  have l3 := wWk_len c8
  rw [if_neg c8, if_pos (show wix (ltr X (sk X p)) wWk < 8 by omega), gl]
  generalize wix (ltr X (sk X p)) wWk = k at w8 c8
  have k8 : k < 8 := by omega
  have e7 : (Int32.ofNat k = 7) = (k = 7) := j_eq (n := 7) (by omega) (by omega)
  rw [if_neg (k_m1 k k8)]
  -- what stands behind the word
  have F : ∀ (o' : Nat), (k = 7 → big = true ∧ o' = o + 1) → (k ≠ 7 → o' = o) → YO ρ h o E p (qb (wCl X E S k (we X (sk X p))) fun p1 b => qb (tS X 59 p1) fun p2 _ => .inr (p2, b)) (go gd_P0 d 125 46 [.ref κ, .int (Int32.ofNat k), .null] [] (rz h ρ (sk X p) o')) := by
    intro o' hk7 hkn
    rw [s125_46, gT_rz, if_pos tk, gR_rz, r1, if_pos tr, sp103 hb (by omega) g2, gc_n, s125_53]
    generalize hq : we X (sk X p) = q at *
    have pq : p + 3 ≤ q := by omega
    have sF : ∀ {k pl c : Nat} {out : Option gd_O}, WE ρ c h k pl out → c ≤ 5 * (160 - p) → ∀ {pc pc2 : Nat} {L st : List Value}, WE ρ (5 * (160 - p)) h k pl (gc gd_P0 d 125 pc pc2 L st out) := fun w hc => (w.up hc).gc rfl
    have kn19 := Ke.nw h 19 0 2 (by omega)
    have kn20 := Ke.nw h 20 0 3 (by omega)
    have kn21 := Ke.nw h 21 0 0 (by omega)
    -- one number
    have O1 : ∀ k, (k = 0 ∨ k = 4 ∨ k = 5) → YO ρ h o E p (qb (qb (tN X 0 (eN E) q) fun p1 v => .inr (p1, yOne E k v 0)) fun p1 b => qb (tS X 59 p1) fun p2 _ => .inr (p2, b)) (go gd_P0 d 125 103 [.ref κ, .int (Int32.ofNat k), .ref 0] [.ref (gS h)] (rz (nw h 19 0 2) ρ q o)) := by
      intro k hk
      have hw1 := hw.ke kn19
      have hb1 := hb.ke kn19
      have n := sp126 hb1 hw1 (d := d) (by omega) gw o
      have g := tN_g (X := X) (lo := 0) (hs := eN E) gw
      rw [s125_103, gT_rz, if_pos hw1.1.1]
      revert n g
      rcases tN X 0 (eN E) q with ⟨kk, pl⟩ | ⟨p1, v⟩
      · intro n _
        exact sF (WE.ke n kn19 (by omega) (Nat.le_refl _)) (by omega)
      · intro n g
        obtain ⟨a1, a2, a3, a4⟩ := g
        have n : run gd_P0 d 126 [.ref κ] (rz (nw h 19 0 2) ρ q o) = _ := n
        obtain ⟨h2, e2, k2, w2⟩ := y132 (E := E) (a := v) hb kn19 (a1 := gS h) (by rw [gT_nw, if_pos rfl]) (Nat.le_refl _) (by rw [gS_nw]; omega) hk (by unfold POK; omega) p1 o (d := d) (by omega)
        rw [n, gc_v, s125_109, gT_rz, if_pos (by rw [gT_nw, if_pos rfl]), e2, gc_n, s125_112]
        exact y220 (a := yOne E k v 0) hb h15 hw k2 (by omega) a2 w2 (by omega) (by omega) (by omega)
    -- the ends: of two numbers
    have O2 : ∀ (h1 : gd_H) (k a b x y p2 : Nat), Ke 1 h h1 → gT h1 (gS h) = 20 → gS h < gS h1 → ((k = 1 ∧ x = a ∧ y = b) ∨ (k = 2 ∧ x = 0 ∧ y = a) ∨ (k = 3 ∧ x = a ∧ y = b)) → POK E k a b → q < p2 → p2 ≤ xn X → ∃ h2, run gd_P0 d 136 [.ref (gS h), .int (Int32.ofNat k), .int (Int32.ofNat x), .int (Int32.ofNat y)] (rz h1 ρ p2 o) = some (.inl none, rz h2 ρ p2 o) ∧ YO ρ h o E p (qb (tS X 59 p2) fun p2 _ => .inr (p2, yOne E k a b)) (go gd_P0 d 125 220 [.ref κ, .null, .ref (gS h)] [] (rz h2 ρ p2 o)) := by
      intro h1 k a b x y p2 k1 t1 s1 hk hpk hq2 hp2
      obtain ⟨h2, e2, k2, w2⟩ := y136 (E := E) hb k1 (a1 := gS h) t1 (Nat.le_refl _) s1 hk hpk p2 o (d := d) (by omega)
      exact ⟨h2, e2, y220 (a := yOne E k a b) hb h15 hw k2 (by omega) hp2 w2 (by omega) (by omega) (by omega)⟩
    have t20 : gT (nw h 20 0 3) (gS h) = 20 := by rw [gT_nw, if_pos rfl]
    have s20 : gS h < gS (nw h 20 0 3) := by rw [gS_nw]; omega
    have hw2 := hw.ke kn20
    have hb2 := hb.ke kn20
    have i62 : ∀ (p o : Nat), gI (rz (nw h 20 0 3) ρ p o) σ 6 = Int32.ofNat (eB E) := fun p o => by rw [rz_b _ _ _ _ σρ]; exact hw2.2.2.1.2.1
    have K : k = 0 ∨ k = 1 ∨ k = 2 ∨ k = 3 ∨ k = 4 ∨ k = 5 ∨ k = 6 ∨ k = 7 := by omega
    rcases K with rfl | rfl | rfl | rfl | rfl | rfl | rfl | rfl
    · rw [hkn (by decide)]
      rw [if_pos (show Int32.ofNat 0 = 0 from rfl), nw_rz h _ _ _ _ _ hρ.2, gS_rz]
      exact O1 0 (Or.inl rfl)
    · rw [hkn (by decide)]
      rw [if_neg (show ¬ Int32.ofNat 1 = 0 by decide), if_pos (show Int32.ofNat 1 = 1 from rfl), nw_rz h _ _ _ _ _ hρ.2, gS_rz, s125_119, gT_rz, if_pos hw2.1.1]
      show YO ρ h o E p (qb (qb (tN X 0 (eN E) q) fun p1 v => qb (tN X 0 10 p1) fun p2 w => .inr (p2, yOne E 1 v w)) fun p1 b => qb (tS X 59 p1) fun p2 _ => .inr (p2, b)) _
      have n1 := sp126 hb2 hw2 (d := d) (by omega) gw o
      have g1 := tN_g (X := X) (lo := 0) (hs := eN E) gw
      revert n1 g1
      rcases tN X 0 (eN E) q with ⟨kk, pl⟩ | ⟨p1, v1⟩
      · intro n1 _
        exact sF (WE.ke n1 kn20 (by omega) (Nat.le_refl _)) (by omega)
      intro n1 g1
      obtain ⟨a1, b1, c1, d1⟩ := g1
      have n1 : run gd_P0 d 126 [.ref κ] (rz (nw h 20 0 3) ρ q o) = _ := n1
      rw [n1, gc_v, s125_125, gT_rz, if_pos hw2.1.1, gR_rz, hw2.1.2.2.1, if_pos hb2.1.1, qb_r]
      have n2 := sp104 hb2 (d := d) (by omega) b1 o (l := 0) (hs := 10) (by omega) (by omega) (hi := 9) (fun v hv => hi_lit (n := 9) (by omega) hv)
      have n2 : TR ρ 1 (nw h 20 0 3) o _ _ (run gd_P0 d 104 [.ref ρ, .int 0, .int (9)] (rz (nw h 20 0 3) ρ p1 o)) := n2
      have g2 := tN_g (X := X) (lo := 0) (hs := 10) b1
      revert n2 g2
      rcases tN X 0 10 p1 with ⟨kk, pl⟩ | ⟨p2, v2⟩
      · intro n2 _
        exact sF (WE.ke n2 kn20 (by omega) (Nat.le_refl _)) (by omega)
      intro n2 g2
      obtain ⟨a2, b2, c2, d2⟩ := g2
      have n2 : run gd_P0 d 104 [.ref ρ, .int 0, .int (9)] (rz (nw h 20 0 3) ρ p1 o) = _ := n2
      obtain ⟨h2, e2, y⟩ := O2 _ 1 v1 v2 v1 v2 p2 kn20 t20 s20 (Or.inl ⟨rfl, rfl, rfl⟩) (by unfold POK; omega) (by omega) b2
      rw [n2, gc_v, s125_135, gT_rz, if_pos t20, show (Int32.ofNat 1) = Int32.ofNat 1 from rfl, e2, gc_n, s125_138]
      exact y
    · rw [hkn (by decide)]
      rw [if_neg (show ¬ Int32.ofNat 2 = 0 by decide), if_neg (show ¬ Int32.ofNat 2 = 1 by decide), if_pos (show Int32.ofNat 2 = 2 from rfl), nw_rz h _ _ _ _ _ hρ.2, gS_rz, s125_145, gT_rz, if_pos hw2.1.1, gR_rz, hw2.1.2.2.1, if_pos hb2.1.1]
      show YO ρ h o E p (qb (qb (tN X 0 10 q) fun p1 v => .inr (p1, yOne E 2 v 0)) fun p1 b => qb (tS X 59 p1) fun p2 _ => .inr (p2, b)) _
      have n2 := sp104 hb2 (d := d) (by omega) gw o (l := 0) (hs := 10) (by omega) (by omega) (hi := 9) (fun v hv => hi_lit (n := 9) (by omega) hv)
      have n2 : TR ρ 1 (nw h 20 0 3) o _ _ (run gd_P0 d 104 [.ref ρ, .int 0, .int (9)] (rz (nw h 20 0 3) ρ q o)) := n2
      have g2 := tN_g (X := X) (lo := 0) (hs := 10) gw
      revert n2 g2
      rcases tN X 0 10 q with ⟨kk, pl⟩ | ⟨p2, v2⟩
      · intro n2 _
        exact sF (WE.ke n2 kn20 (by omega) (Nat.le_refl _)) (by omega)
      intro n2 g2
      obtain ⟨a2, b2, c2, d2⟩ := g2
      have n2 : run gd_P0 d 104 [.ref ρ, .int 0, .int (9)] (rz (nw h 20 0 3) ρ q o) = _ := n2
      obtain ⟨h2, e2, y⟩ := O2 _ 2 v2 0 0 v2 p2 kn20 t20 s20 (Or.inr (Or.inl ⟨rfl, rfl, rfl⟩)) (by unfold POK; omega) (by omega) b2
      have e2 : run gd_P0 d 136 [.ref (gS h), .int (Int32.ofNat 2), .int 0, .int (Int32.ofNat v2)] _ = _ := e2
      rw [n2, gc_v, s125_158, gT_rz, if_pos t20, e2, gc_n, s125_161]
      exact y
    · rw [hkn (by decide)]
      rw [if_neg (show ¬ Int32.ofNat 3 = 0 by decide), if_neg (show ¬ Int32.ofNat 3 = 1 by decide), if_neg (show ¬ Int32.ofNat 3 = 2 by decide), if_pos (show Int32.ofNat 3 = 3 from rfl), nw_rz h _ _ _ _ _ hρ.2, gS_rz, s125_168, gT_rz, if_pos hw2.1.1, if_pos hw2.1.1, gR_rz, hw2.1.2.2.1, hw2.1.2.2.2, if_pos hw2.2.2.1.1, if_pos hb2.1.1, i62]
      show YO ρ h o E p (qb (qb (tN X 0 (eB E) q) fun p1 v => qb (tN X 1 10 p1) fun p2 w => .inr (p2, yOne E 3 v w)) fun p1 b => qb (tS X 59 p1) fun p2 _ => .inr (p2, b)) _
      have n1 := sp104 hb2 (d := d) (by omega) gw o (l := 0) (hs := eB E) (by omega) (by omega) (hi := Int32.ofNat (eB E) - 1) (fun v hv => hi_ok (by omega) hv)
      have n1 : TR ρ 1 (nw h 20 0 3) o _ _ (run gd_P0 d 104 [.ref ρ, .int 0, .int (Int32.ofNat (eB E) - 1)] (rz (nw h 20 0 3) ρ q o)) := n1
      have g1 := tN_g (X := X) (lo := 0) (hs := eB E) gw
      revert n1 g1
      rcases tN X 0 (eB E) q with ⟨kk, pl⟩ | ⟨p1, v1⟩
      · intro n1 _
        exact sF (WE.ke n1 kn20 (by omega) (Nat.le_refl _)) (by omega)
      intro n1 g1
      obtain ⟨a1, b1, c1, d1⟩ := g1
      have n1 : run gd_P0 d 104 [.ref ρ, .int 0, .int (Int32.ofNat (eB E) - 1)] (rz (nw h 20 0 3) ρ q o) = _ := n1
      rw [n1, gc_v, s125_187, gT_rz, if_pos hw2.1.1, gR_rz, hw2.1.2.2.1, if_pos hb2.1.1, qb_r]
      have n2 := sp104 hb2 (d := d) (by omega) b1 o (l := 1) (hs := 10) (by omega) (by omega) (hi := 9) (fun v hv => hi_lit (n := 9) (by omega) hv)
      have n2 : TR ρ 1 (nw h 20 0 3) o _ _ (run gd_P0 d 104 [.ref ρ, .int 1, .int (9)] (rz (nw h 20 0 3) ρ p1 o)) := n2
      have g2 := tN_g (X := X) (lo := 1) (hs := 10) b1
      revert n2 g2
      rcases tN X 1 10 p1 with ⟨kk, pl⟩ | ⟨p2, v2⟩
      · intro n2 _
        exact sF (WE.ke n2 kn20 (by omega) (Nat.le_refl _)) (by omega)
      intro n2 g2
      obtain ⟨a2, b2, c2, d2⟩ := g2
      have n2 : run gd_P0 d 104 [.ref ρ, .int 1, .int (9)] (rz (nw h 20 0 3) ρ p1 o) = _ := n2
      obtain ⟨h2, e2, y⟩ := O2 _ 3 v1 v2 v1 v2 p2 kn20 t20 s20 (Or.inr (Or.inr ⟨rfl, rfl, rfl⟩)) (by unfold POK; omega) (by omega) b2
      rw [n2, gc_v, s125_197, gT_rz, if_pos t20, e2, gc_n, s125_200]
      exact y
    · rw [hkn (by decide)]
      rw [if_neg (show ¬ Int32.ofNat 4 = 0 by decide), if_neg (show ¬ Int32.ofNat 4 = 1 by decide), if_neg (show ¬ Int32.ofNat 4 = 2 by decide), if_neg (show ¬ Int32.ofNat 4 = 3 by decide), if_pos (show Int32.ofNat 4 = 4 from rfl), nw_rz h _ _ _ _ _ hρ.2, gS_rz]
      exact O1 4 (Or.inr (Or.inl rfl))
    · rw [hkn (by decide)]
      rw [if_neg (show ¬ Int32.ofNat 5 = 0 by decide), if_neg (show ¬ Int32.ofNat 5 = 1 by decide), if_neg (show ¬ Int32.ofNat 5 = 2 by decide), if_neg (show ¬ Int32.ofNat 5 = 3 by decide), if_neg (show ¬ Int32.ofNat 5 = 4 by decide), if_pos (show Int32.ofNat 5 = 5 from rfl), nw_rz h _ _ _ _ _ hρ.2, gS_rz]
      exact O1 5 (Or.inr (Or.inr rfl))
    · rw [hkn (by decide)]
      have t21 : gT (nw h 21 0 0) (gS h) = 21 := by rw [gT_nw, if_pos rfl]
      have e2 : ∀ H : gd_H, gT H (gS h) = 21 → run gd_P0 d 138 [.ref (gS h)] H = some (.inl none, H) := by
        intro H hH
        obtain ⟨d, rfl⟩ : ∃ e, d = e + 1 := ⟨d - 1, by omega⟩
        rw [r138, s138_0, if_pos hH, sp128 (by omega) _ (by omega), gc_n, s138_4]
      rw [if_neg (show ¬ Int32.ofNat 6 = 0 by decide), if_neg (show ¬ Int32.ofNat 6 = 1 by decide), if_neg (show ¬ Int32.ofNat 6 = 2 by decide), if_neg (show ¬ Int32.ofNat 6 = 3 by decide), if_neg (show ¬ Int32.ofNat 6 = 4 by decide), if_neg (show ¬ Int32.ofNat 6 = 5 by decide), if_pos (show Int32.ofNat 6 = 6 from rfl), nw_rz h _ _ _ _ _ hρ.2, gS_rz, s125_207, gT_rz, if_pos t21, e2 (rz (nw h 21 0 0) ρ q o) t21, gc_n, s125_211]
      exact y220 (a := yOne E 6 0 0) (n := 1) hb h15 hw kn21 (by omega) gw ⟨⟨Nat.le_refl _, by rw [gS_nw]; omega⟩, Or.inr (Or.inr (Or.inl ⟨t21, rfl⟩))⟩ (by omega) (by omega) (by omega)
    · obtain ⟨rfl, rfl⟩ := hk7 rfl
      have r := (hS1 rfl).2 d h ρ κ ω σ q (by omega) hb hS hw gw
      rw [if_neg (show ¬ Int32.ofNat 7 = 0 by decide), if_neg (show ¬ Int32.ofNat 7 = 1 by decide), if_neg (show ¬ Int32.ofNat 7 = 2 by decide), if_neg (show ¬ Int32.ofNat 7 = 3 by decide), if_neg (show ¬ Int32.ofNat 7 = 4 by decide), if_neg (show ¬ Int32.ofNat 7 = 5 by decide), if_neg (show ¬ Int32.ofNat 7 = 6 by decide), gT_rz, if_pos tk]
      show YO ρ h o E p (qb (S q) fun p1 b => qb (tS X 59 p1) fun p2 _ => .inr (p2, b)) _
      revert r
      rcases S q with ⟨kk, pl⟩ | ⟨p1, a⟩
      · intro r
        exact sF r (by omega)
      · rintro ⟨h2, t, e, k2, ⟨a1, a2⟩, w2⟩
        rw [e, gc_v, s125_219, qb_r]
        exact y220 hb h15 hw k2 (by omega) a2 w2 (by omega) (by omega) (by omega)
  by_cases c7 : k = 7
  · have c7' : Int32.ofNat k = 7 := by rw [e7]; exact c7
    rw [if_pos c7', gT_rz, if_pos tk, gR_rz, r1, if_pos tr]
    cases big with
    | false =>
      rw [if_pos ⟨c7, rfl⟩, ho rfl]
      have := sp107n hb (d := d) (by omega) g2
      rw [sq] at this
      exact WE.gc (this.up (by omega)) rfl
    | true =>
      rw [if_neg (fun z => by have := z.2; cases this), sp107 hb (by omega) g2 (hS1 rfl).1, gc_n]
      exact F (o + 1) (fun _ => ⟨rfl, rfl⟩) (fun z => absurd c7 z)
  · have c7' : ¬ Int32.ofNat k = 7 := by rw [e7]; exact c7
    rw [if_neg c7', if_neg (fun z => c7 z.1)]
    exact F o (fun z => absurd z c7) (fun _ => rfl)

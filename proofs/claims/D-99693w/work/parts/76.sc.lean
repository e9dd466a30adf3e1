/-! ===== THE CALL school: the class reads ===== -/
set_option maxRecDepth 100000
/-- a school's cells, ready to be filled -/
def SQ (h H : gd_H) (ζ : Nat) (X : gdX) : Prop := (Kx 20 h H ∧ (gI H 96 16 = 0 ∧ gI H 96 17 = -1)) ∧ RB H (ζ + 1) X ∧ SK H ∧ (gT H ζ = 9 ∧ gR H ζ 0 = ζ + 2 ∧ gR H ζ 1 = ζ + 1 ∧ gR H ζ 2 = ζ + 3) ∧ (gT H (ζ + 2) = 38 ∧ gL H (ζ + 2) = 4 ∧ ∀ i, i < 4 → gR H (ζ + 2) i = 8 + 2 * (0 + i)) ∧ SC H (ζ + 3) ∧ (gS h = ζ ∧ gS H = ζ + 10 ∧ 1264 < ζ)
theorem SQ.wr {h H : gd_H} {ζ : Nat} {X : gdX} (s : SQ h H ζ X) {a j : Nat} {v : Int32} (h1 : ζ ≤ a) (h2 : a ≠ ζ + 1) : SQ h (wI H (up1 (gI H) a j v)) ζ X := by
  obtain ⟨⟨s1, s2⟩, s3, s4, s5, s6, s7, s8, s9, s10⟩ := s
  refine ⟨⟨s1.wr (by omega) (by omega), by rw [gI_wI, up1_nc _ _ _ (by omega)]; exact s2⟩, s3.wr h2 (by omega), s4.cg fun b hb => ⟨rfl, rfl, up1_nc _ _ _ (by omega)⟩, s5, s6, s7, s8, s9, s10⟩
/-- what was read of a school -/
def ScI (I : Nat → Nat → Int32) (ζ c : Nat) (a : gdS) : Prop := (I (ζ + 3) 6 = Int32.ofNat (scB a) ∧ I (ζ + 3) 7 = Int32.ofNat (scN a) ∧ I ζ 3 = Int32.ofNat c) ∧ (∀ k, k < 6 → I (ζ + 4) k = scT a k ∧ I (ζ + 5) k = scG a k) ∧ (∀ p, p < 7 → I (ζ + 6) p = scH a p ∧ I (ζ + 7) p = scF a p ∧ I (ζ + 8) p = scK a p) ∧ ∀ m, m < 12 → I (ζ + 9) m = scR a m
/-- a fault in a school's text -/
def SE (h : gd_H) (k pl : Nat) (out : Option gd_O) : Prop := ∃ H ρ a h', out = some (.inr a, h') ∧ (Kx 20 h H ∧ gI H 96 16 = 0) ∧ WX ρ 2 H k pl a h' ∧ gS h ≤ ρ
theorem SE.gc {h : gd_H} {k pl : Nat} {out : Option gd_O} (s : SE h k pl out) {d m pc q : Nat} {L st : List Value} (hm : gd_hd m = []) : SE h k pl (gc gd_P0 d m pc q L st out) := by
  obtain ⟨H, ρ, a, h', rfl, s1, w, s2⟩ := s
  exact ⟨H, ρ, a, h', by rw [gc_x]; exact gxw hm w.1.2.1 _ _ _, s1, w, s2⟩
theorem SQ.se {h H : gd_H} {ζ : Nat} {X : gdX} (s : SQ h H ζ X) {c k pl : Nat} {out : Option gd_O} (w : WE (ζ + 1) c H k pl out) (hc : c ≤ 2) : SE h k pl out := by
  obtain ⟨a, h', e, w1, w2⟩ := w
  exact ⟨H, ζ + 1, a, h', e, ⟨s.1.1, s.1.2.1⟩, ⟨w1, w2.up hc⟩, by have := s.2.2.2.2.2.2.1; omega⟩
theorem SQ.f {h H : gd_H} {ζ : Nat} {X : gdX} (s : SQ h H ζ X) : (gT H (ζ + 1) = 10) ∧ (gT H ζ = 9 ∧ gR H ζ 0 = ζ + 2 ∧ gR H ζ 1 = ζ + 1 ∧ gR H ζ 2 = ζ + 3) ∧ gT H (ζ + 3) = 6 ∧ (gR H (ζ + 3) 0 = ζ + 4 ∧ gT H (ζ + 4) = 31 ∧ gL H (ζ + 4) = 6) ∧ (gR H (ζ + 3) 1 = ζ + 5 ∧ gT H (ζ + 5) = 31 ∧ gL H (ζ + 5) = 6) ∧ (gR H (ζ + 3) 2 = ζ + 6 ∧ gT H (ζ + 6) = 31 ∧ gL H (ζ + 6) = 7) ∧ (gR H (ζ + 3) 3 = ζ + 7 ∧ gT H (ζ + 7) = 31 ∧ gL H (ζ + 7) = 7) ∧ (gR H (ζ + 3) 4 = ζ + 8 ∧ gT H (ζ + 8) = 31 ∧ gL H (ζ + 8) = 7) ∧ (gR H (ζ + 3) 5 = ζ + 9 ∧ gT H (ζ + 9) = 31 ∧ gL H (ζ + 9) = 12) := by
  obtain ⟨-, s3, -, s5, -, s7, -⟩ := s
  exact ⟨s3.1.1, s5, s7.2⟩
theorem sp287 {H h : gd_H} {ζ c : Nat} {X : gdX} {a : gdS} (s : SQ h H ζ X) (si : ScI (gI H) ζ c a) (hc : c ≤ 60) (ha : scB a ≤ 6 ∧ scN a ≤ 7) {k : Nat} (hk : k < 4) (p : Nat) {d : Nat} (hd : 1 ≤ d) : run gd_P0 d 287 [.ref ζ, .int (Int32.ofNat k)] (rz H (ζ + 1) p 0) = some (.inl (some (.int (if sFull c k a = true then 1 else 0))), rz H (ζ + 1) p 0) := by
  obtain ⟨d, rfl⟩ : ∃ e, d = e + 1 := ⟨d - 1, by omega⟩
  obtain ⟨-, ⟨tz, -, -, r2⟩, t3, -⟩ := s.f
  obtain ⟨⟨i6, i7, i3⟩, -⟩ := si
  have e3 : gI (rz H (ζ + 1) p 0) ζ 3 = Int32.ofNat c := by rw [rz_b _ _ _ _ (by omega)]; exact i3
  have e6 : gI (rz H (ζ + 1) p 0) (ζ + 3) 6 = Int32.ofNat (scB a) := by rw [rz_b _ _ _ _ (by omega)]; exact i6
  have e7 : gI (rz H (ζ + 1) p 0) (ζ + 3) 7 = Int32.ofNat (scN a) := by rw [rz_b _ _ _ _ (by omega)]; exact i7
  have q1 : (Int32.ofNat c = 60) = (c = 60) := j_eq (n := 60) (by omega) (by omega)
  have q2 : (Int32.ofNat k = 0) = (k = 0) := j_eq (n := 0) (by omega) (by omega)
  have q3 : (Int32.ofNat k = 1) = (k = 1) := j_eq (n := 1) (by omega) (by omega)
  have q4 : (Int32.ofNat (scB a) = 6) = (scB a = 6) := j_eq (n := 6) (by omega) (by omega)
  have q5 : (Int32.ofNat (scN a) = 7) = (scN a = 7) := j_eq (n := 7) (by omega) (by omega)
  have ey : ∀ w0 w1, go gd_P0 d 287 42 [w0, w1] [] (rz H (ζ + 1) p 0) = some (.inl (some (.int 1)), rz H (ζ + 1) p 0) := fun w0 w1 => by rw [s287_42, s287_47, if_pos (Or.inr rfl)]
  have en : ∀ w0 w1, go gd_P0 d 287 46 [w0, w1] [] (rz H (ζ + 1) p 0) = some (.inl (some (.int 0)), rz H (ζ + 1) p 0) := fun w0 w1 => by rw [s287_46, s287_47, if_pos (Or.inl rfl)]
  rw [r287, s287_0, gT_rz, if_pos tz, e3]
  simp only [q1, q2, gT_rz, gR_rz, tz, r2, t3, e6, q4, ↓reduceIte, s287_25, q3, e7, q5, ey, en]
  unfold sFull
  by_cases c1 : c = 60
  · rw [if_pos c1, if_pos (decide_eq_true (Or.inl c1))]
  · rw [if_neg c1]
    by_cases k0 : k = 0
    · rw [if_pos k0]
      by_cases b6 : scB a = 6
      · rw [if_pos b6, if_pos (decide_eq_true (Or.inr (Or.inl ⟨k0, b6⟩)))]
      · rw [if_neg b6, if_neg (show ¬ k = 1 by omega), if_neg (by rw [decide_eq_true_eq]; omega)]
    · rw [if_neg k0]
      by_cases k1 : k = 1
      · rw [if_pos k1]
        by_cases b7 : scN a = 7
        · rw [if_pos b7, if_pos (decide_eq_true (Or.inr (Or.inr ⟨k1, b7⟩)))]
        · rw [if_neg b7, if_neg (by rw [decide_eq_true_eq]; omega)]
      · rw [if_neg k1, if_neg (by rw [decide_eq_true_eq]; omega)]
/-- kin -/
theorem sp288 {H h : gd_H} {ζ c : Nat} {X : gdX} {a : gdS} (s : SQ h H ζ X) (si : ScI (gI H) ζ c a) (hN : scN a ≤ 7) {p : Nat} (hp : p ≤ xn X) {d : Nat} (hd : 6 ≤ d) :
    (∀ k pl, sCl X 2 a p = .inl (k, pl) → SE h k pl (run gd_P0 d 288 [.ref ζ] (rz H (ζ + 1) p 0))) ∧ ∀ p' b, sCl X 2 a p = .inr (p', b) → ∃ H', run gd_P0 d 288 [.ref ζ] (rz H (ζ + 1) p 0) = some (.inl none, rz H' (ζ + 1) p' 0) ∧ SQ h H' ζ X ∧ ScI (gI H') ζ c b := by
  obtain ⟨d, rfl⟩ : ∃ e, d = e + 1 := ⟨d - 1, by omega⟩
  have hb := s.2.1
  have hX : XO X := hb.2.2.2.2
  have hn6 : xn X ≤ 600 := hX.1
  have hρ := hb.2.2.2.1
  obtain ⟨t1, ⟨tz, -, rz1, r2⟩, t3, -, -, -, -, ⟨r8, t8, l8⟩, -⟩ := s.f
  obtain ⟨⟨i6, i7, i3⟩, iT, iH, iR⟩ := id si
  have e7 : ∀ q, gI (rz H (ζ + 1) q 0) (ζ + 3) 7 = Int32.ofNat (scN a) := fun q => by rw [rz_b _ _ _ _ (by omega)]; exact i7
  have sc : sCl X 2 a p = qb (tN X 0 (scN a) p) fun p1 x => qb (tN X 0 (scN a) p1) fun p2 y => if x = y then .inl (2, sk X p1) else .inr (p2, (a.1, a.2.1, a.2.2.1, kKin (scK a) x y, scR a)) := rfl
  rw [sc, r288, s288_0]
  simp only [gT_rz, gR_rz, tz, rz1, r2, t3, t1, e7, ↓reduceIte]
  have n1 := sp104 hb (d := d) (by omega) hp 0 (l := 0) (hs := scN a) (by omega) (by omega) (hi := Int32.ofNat (scN a) - 1) (fun v hv => hi_ok (by omega) hv)
  have g1 := tN_g (X := X) (lo := 0) (hs := scN a) hp
  revert n1 g1
  rcases tN X 0 (scN a) p with ⟨kk, pl⟩ | ⟨p1, x⟩
  · intro n1 _
    refine ⟨fun k pl' e => ?_, fun p' b e => (by cases e)⟩
    cases e
    exact (s.se n1 (by omega)).gc rfl
  intro n1 g1
  obtain ⟨a1, a2, a3, a4⟩ := g1
  have n1 : run gd_P0 d 104 [.ref (ζ + 1), .int 0, .int (Int32.ofNat (scN a) - 1)] (rz H (ζ + 1) p 0) = _ := n1
  rw [n1, gc_v, s288_17, gT_rz, if_pos tz, gR_rz, rz1, if_pos t1, sp99 hb (by omega) a2, gc_v, s288_25]
  simp only [gT_rz, gR_rz, tz, rz1, r2, t3, t1, e7, ↓reduceIte, qb_r]
  have gs2 := sk_le a2
  have n2 := sp104 hb (d := d) (by omega) gs2 0 (l := 0) (hs := scN a) (by omega) (by omega) (hi := Int32.ofNat (scN a) - 1) (fun v hv => hi_ok (by omega) hv)
  have g2 := tN_g (X := X) (lo := 0) (hs := scN a) a2
  rw [tN_sk a2] at n2
  revert n2 g2
  rcases tN X 0 (scN a) p1 with ⟨kk, pl⟩ | ⟨p2, y⟩
  · intro n2 _
    refine ⟨fun k pl' e => ?_, fun p' b e => (by cases e)⟩
    cases e
    exact (s.se n2 (by omega)).gc rfl
  intro n2 g2
  obtain ⟨b1, b2, b3, b4⟩ := g2
  have n2 : run gd_P0 d 104 [.ref (ζ + 1), .int 0, .int (Int32.ofNat (scN a) - 1)] (rz H (ζ + 1) (sk X p1) 0) = _ := n2
  rw [n2, gc_v, s288_43, qb_r]
  simp only [j_eq (show x < 2147483648 by omega) (show y < 2147483648 by omega)]
  by_cases xy : x = y
  · rw [if_pos xy, if_pos xy]
    refine ⟨fun k pl' e => ?_, fun p' b e => (by cases e)⟩
    cases e
    obtain ⟨h2, e2, w⟩ := wfl hb (Ke.nw H 11 0 8 (by omega)) (a := gS H) (by rw [gT_nw, if_pos rfl]) (Nat.le_refl _) 2 (sk X p1) p2 0 (d := d) (by omega)
    have e2 : run gd_P0 d 111 [.ref (gS H), .int 2, .int (Int32.ofNat (sk X p1))] (rz (nw H 11 0 8) (ζ + 1) p2 0) = _ := e2
    have t2 : gT (rz (nw H 11 0 8) (ζ + 1) p2 0) (gS H) = 11 := by rw [gT_rz, gT_nw, if_pos rfl]
    rw [nw_rz H _ _ _ _ _ hρ.2, gS_rz, if_pos t2, e2, gc_n, s288_58, if_pos w.1.1, gxw rfl w.1.2.1]
    exact s.se (c := 1) ⟨gS H, h2, rfl, w⟩ (by omega)
  · rw [if_neg xy, if_neg xy]
    refine ⟨fun k pl' e => (by cases e), fun p' b e => ?_⟩
    cases e
    have c8 : ∀ z, z < scN a → (gT H (ζ + 8) = 31 ∧ ¬ (Int32.ofNat z < 0 ∨ gL H (ζ + 8) ≤ (Int32.ofNat z).toNatClampNeg)) := fun z hz => ⟨t8, by rw [l8, j_ix (by omega) (by omega)]; exact trivial⟩
    have e8 : gI (rz H (ζ + 1) p2 0) (ζ + 8) = gI H (ζ + 8) := rz_b _ _ _ _ (by omega)
    simp only [gT_rz, gR_rz, gL_rz, tz, r2, t3, r8, c8 x a4, c8 y b4, ↓reduceIte, and_self, not_false_eq_true]
    rw [j_cl (by omega), j_cl (by omega), e8]
    refine ⟨wI (wI H (up1 (gI H) (ζ + 8) x (gI H (ζ + 8) x ||| ((1 : Int32) <<< (Int32.ofNat y &&& 31))))) (up1 (gI (wI H (up1 (gI H) (ζ + 8) x (gI H (ζ + 8) x ||| ((1 : Int32) <<< (Int32.ofNat y &&& 31)))))) (ζ + 8) y (up1 (gI H) (ζ + 8) x (gI H (ζ + 8) x ||| ((1 : Int32) <<< (Int32.ofNat y &&& 31))) (ζ + 8) y ||| ((1 : Int32) <<< (Int32.ofNat x &&& 31)))), ?_, (s.wr (by omega) (by omega)).wr (by omega) (by omega), ?_⟩
    · rw [← rz_wa (h := wI H (up1 (gI H) (ζ + 8) x (gI H (ζ + 8) x ||| ((1 : Int32) <<< (Int32.ofNat y &&& 31))))) (by omega), ← rz_wa (h := H) (by omega), wI_wI, gI_wI]
      have u : up1 (gI (rz H (ζ + 1) p2 0)) (ζ + 8) x (gI H (ζ + 8) x ||| ((1 : Int32) <<< (Int32.ofNat y &&& 31))) (ζ + 8) y = up1 (gI H) (ζ + 8) x (gI H (ζ + 8) x ||| ((1 : Int32) <<< (Int32.ofNat y &&& 31))) (ζ + 8) y := by
        by_cases z : y = x
        · exact absurd z.symm xy
        · rw [up1_nj _ _ z, up1_nj _ _ z, e8]
      rw [u]
    · have ku := (iH y (by omega)).2.2
      have kx := (iH x (by omega)).2.2
      refine ⟨⟨?_, ?_, ?_⟩, fun k hk => ?_, fun q hq => ⟨?_, ?_, ?_⟩, fun m hm => ?_⟩
      · rw [gI_wI, up1_nc _ _ _ (by omega), gI_wI, up1_nc _ _ _ (by omega)]; exact i6
      · rw [gI_wI, up1_nc _ _ _ (by omega), gI_wI, up1_nc _ _ _ (by omega)]; exact i7
      · rw [gI_wI, up1_nc _ _ _ (by omega), gI_wI, up1_nc _ _ _ (by omega)]; exact i3
      · rw [gI_wI, up1_nc _ _ _ (by omega), up1_nc _ _ _ (by omega), gI_wI, up1_nc _ _ _ (by omega), up1_nc _ _ _ (by omega)]; exact iT k hk
      · rw [gI_wI, up1_nc _ _ _ (by omega), gI_wI, up1_nc _ _ _ (by omega)]; exact (iH q hq).1
      · rw [gI_wI, up1_nc _ _ _ (by omega), gI_wI, up1_nc _ _ _ (by omega)]; exact (iH q hq).2.1
      · rw [gI_wI, gI_wI]
        show _ = kKin (scK a) x y q
        unfold kKin
        have qa := (iH q hq).2.2
        by_cases qy : q = y
        · subst qy
          rw [up1_eq, rw1_eq, up1_nj _ _ (fun z => xy z.symm), rw1_ne _ _ (fun z => xy z.symm), qa]
        · rw [up1_nj _ _ qy, rw1_ne _ _ qy]
          by_cases qx : q = x
          · subst qx
            rw [up1_eq, rw1_eq, qa]
          · rw [up1_nj _ _ qx, rw1_ne _ _ qx]; exact qa
      · rw [gI_wI, up1_nc _ _ _ (by omega), gI_wI, up1_nc _ _ _ (by omega)]; exact iR m hm
/-- a clause -/
theorem sp286 {H h : gd_H} {ζ c : Nat} {X : gdX} {a : gdS} (s : SQ h H ζ X) (si : ScI (gI H) ζ c a) (hc : c ≤ 60) (sg : SG a) {p : Nat} (hp : p ≤ xn X) {d : Nat} (hd : 8 ≤ d) :
    (∀ k pl, sOne X c a p = .inl (k, pl) → SE h k pl (run gd_P0 d 286 [.ref ζ] (rz H (ζ + 1) p 0))) ∧ ∀ p' b, sOne X c a p = .inr (p', b) → ∃ H', run gd_P0 d 286 [.ref ζ] (rz H (ζ + 1) p 0) = some (.inl none, rz H' (ζ + 1) p' 0) ∧ SQ h H' ζ X ∧ ScI (gI H') ζ (c + 1) b := by
  obtain ⟨d, rfl⟩ : ∃ e, d = e + 1 := ⟨d - 1, by omega⟩
  have ha := sg.1
  have hb := s.2.1
  have hX : XO X := hb.2.2.2.2
  have hn6 : xn X ≤ 600 := hX.1
  have hρ := hb.2.2.2.1
  have g2 := sk_le hp
  have sq := sk_sk hp
  have gl := ltr_len X (sk X p)
  have gw := we_le g2
  obtain ⟨t1, ⟨tz, r0, rz1, r2⟩, t3, ⟨r4, t4, l4⟩, ⟨r5, t5, l5⟩, ⟨r6, t6, l6⟩, ⟨r7, t7, l7⟩, -, ⟨r9, t9, l9⟩⟩ := s.f
  have e100 := sp100 hb s.2.2.1 (ω := ζ + 2) (by omega) s.2.2.2.2.1.1 (b := 0) (ws := wSc) s.2.2.2.2.1.2.1 (by decide) (by decide) (by decide) (fun i hi => ⟨s.2.2.2.2.1.2.2 i hi, by
    have : ∀ i, i < 4 → wds.getD (0 + i) [] = wSc.getD i [] := by decide +kernel
    exact this i hi⟩) (d := d) (by omega) g2 0
  rw [sq] at e100
  have e100 : run gd_P0 d 100 [.ref (ζ + 1), .ref (ζ + 2)] (rz H (ζ + 1) (sk X p) 0) = some (.inl (some (.int (if wix (ltr X (sk X p)) wSc < 4 then Int32.ofNat (wix (ltr X (sk X p)) wSc) else -1))), rz H (ζ + 1) (sk X p) 0) := e100
  rw [r286, s286_0, gT_rz, if_pos tz, gR_rz, rz1, if_pos t1, sp99 hb (by omega) hp, gc_v, s286_7, gT_rz, if_pos tz, if_pos tz, gR_rz, rz1, if_pos t1, r0, e100, gc_v, s286_19]
  unfold sOne
  have wle : wix (ltr X (sk X p)) wSc ≤ 4 := wix_le _ wSc
  generalize hk : wix (ltr X (sk X p)) wSc = k at wle
  -- throws
  have thr1 : ∀ (kk pcC pcN : Nat) (L : List Value), (∀ (z : Nat) (h : gd_H), go gd_P0 d 286 pcN L [.ref z] h = if 4 ≤ z then gx gd_P0 d 286 pcN L z h else none) → SE h kk (sk X p) (gc gd_P0 d 286 pcC pcN L [.ref (gS H)] (run gd_P0 d 111 [.ref (gS H), .int (Int32.ofNat kk), .int (Int32.ofNat (sk X p))] (rz (nw H 11 0 8) (ζ + 1) (sk X p) 0))) := by
    intro kk pcC pcN L hg
    obtain ⟨h2, e2, w⟩ := wfl hb (Ke.nw H 11 0 8 (by omega)) (a := gS H) (by rw [gT_nw, if_pos rfl]) (Nat.le_refl _) kk (sk X p) (sk X p) 0 (d := d) (by omega)
    rw [e2, gc_n, hg, if_pos w.1.1, gxw rfl w.1.2.1]
    exact s.se (c := 1) ⟨gS H, h2, rfl, w⟩ (by omega)
  have t2 : gT (rz (nw H 11 0 8) (ζ + 1) (sk X p) 0) (gS H) = 11 := by rw [gT_rz, gT_nw, if_pos rfl]
  by_cases k4 : k = 4
  · rw [if_neg (show ¬ k < 4 by omega), if_pos rfl, if_pos k4, nw_rz H _ _ _ _ _ hρ.2, gS_rz, if_pos t2]
    refine ⟨fun k' pl e => ?_, fun p' b e => (by cases e)⟩
    cases e
    exact thr1 1 31 34 _ (fun z h => s286_34 ..)
  rw [if_pos (show k < 4 by omega), if_neg k4, if_neg (show ¬ Int32.ofNat k = -1 by rw [j_m1 (by omega)]; exact fun z => z), gT_rz, if_pos tz, sp287 s si hc ha (by omega) _ (by omega), gc_v, s286_40]
  by_cases fu : sFull c k a = true
  · rw [if_pos fu, if_pos fu, if_neg (show ¬ (1 : Int32) = 0 by decide), nw_rz H _ _ _ _ _ hρ.2, gS_rz, if_pos t2]
    refine ⟨fun k' pl e => ?_, fun p' b e => (by cases e)⟩
    cases e
    exact thr1 3 49 52 _ (fun z h => s286_52 ..)
  rw [if_neg fu, if_neg fu, if_pos rfl, gT_rz, if_pos tz, gR_rz, rz1, if_pos t1, sp103 hb (by omega) g2, gc_n, gl]
  have hc60 : c < 60 := by
    unfold sFull at fu
    rw [decide_eq_true_eq] at fu
    omega
  generalize we X (sk X p) = q at gw
  obtain ⟨⟨i6, i7, i3⟩, iT, iH, iR⟩ := id si
  -- the clause's count
  have w3 : wI (rz H (ζ + 1) q 0) (up1 (gI (rz H (ζ + 1) q 0)) ζ 3 (gI (rz H (ζ + 1) q 0) ζ 3 + 1)) = rz (wI H (up1 (gI H) ζ 3 (Int32.ofNat (c + 1)))) (ζ + 1) q 0 := by
    rw [rz_wa (by omega), rz_b _ _ _ _ (by omega), i3, j_s]
  generalize eH1 : wI H (up1 (gI H) ζ 3 (Int32.ofNat (c + 1))) = H1 at w3
  have s1 : SQ h H1 ζ X := by rw [← eH1]; exact s.wr (by omega) (by omega)
  have T1 : gT H1 = gT H := by rw [← eH1]; rfl
  have L1 : gL H1 = gL H := by rw [← eH1]; rfl
  have R1 : gR H1 = gR H := by rw [← eH1]; rfl
  have si1 : ScI (gI H1) ζ (c + 1) a := by
    rw [← eH1]
    refine ⟨⟨?_, ?_, ?_⟩, fun k hk => ?_, fun q hq => ?_, fun m hm => ?_⟩
    · rw [gI_wI, up1_nc _ _ _ (by omega)]; exact i6
    · rw [gI_wI, up1_nc _ _ _ (by omega)]; exact i7
    · rw [gI_wI, up1_eq]
    · rw [gI_wI, up1_nc _ _ _ (by omega), up1_nc _ _ _ (by omega)]; exact iT k hk
    · rw [gI_wI, up1_nc _ _ _ (by omega), up1_nc _ _ _ (by omega), up1_nc _ _ _ (by omega)]; exact iH q hq
    · rw [gI_wI, up1_nc _ _ _ (by omega)]; exact iR m hm
  -- the clause's end
  have fin : ∀ (H2 : gd_H) (b : gdS) (p1 : Nat), SQ h H2 ζ X → ScI (gI H2) ζ (c + 1) b → p1 ≤ xn X → (∀ k pl, (qb (tS X 59 p1) fun p2 _ => (.inr (p2, b) : gdQ gdS)) = .inl (k, pl) → SE h k pl (go gd_P0 d 286 269 [.ref ζ, .null, .null, .null] [] (rz H2 (ζ + 1) p1 0))) ∧ ∀ p' b', (qb (tS X 59 p1) fun p2 _ => (.inr (p2, b) : gdQ gdS)) = .inr (p', b') → ∃ H', go gd_P0 d 286 269 [.ref ζ, .null, .null, .null] [] (rz H2 (ζ + 1) p1 0) = some (.inl none, rz H' (ζ + 1) p' 0) ∧ SQ h H' ζ X ∧ ScI (gI H') ζ (c + 1) b' := by
    intro H2 b p1 s2 si2 hp1
    obtain ⟨u1, ⟨uz, -, uz1, -⟩, -⟩ := s2.f
    rw [s286_269, gT_rz, if_pos uz, gR_rz, uz1, if_pos u1]
    have n := sp106 s2.2.1 (d := d) (by omega) hp1 0 (c := 59) (by omega)
    revert n
    rcases tS X 59 p1 with ⟨kk, pl⟩ | ⟨p2, ⟨⟩⟩
    · intro n
      refine ⟨fun k' pl' e => ?_, fun p' b' e => (by cases e)⟩
      cases e
      exact (s2.se n (by omega)).gc rfl
    · intro n
      have n : run gd_P0 d 106 [.ref (ζ + 1), .int 59] (rz H2 (ζ + 1) p1 0) = _ := n
      refine ⟨fun k' pl' e => (by cases e), fun p' b' e => ?_⟩
      cases e
      exact ⟨H2, by rw [n, gc_n, s286_278], s2, si2⟩
  obtain ⟨⟨j6, j7, j3⟩, jT, jH, jR⟩ := id si1
  have hb1 := s1.2.1
  have k3 : k = 0 ∨ k = 1 ∨ k = 2 ∨ k = 3 := by omega
  rw [s286_60, w3]
  rcases k3 with rfl | rfl | rfl | rfl
  · -- two numbers: 0
    have hB : scB a < 6 := by
      unfold sFull at fu
      rw [decide_eq_true_eq] at fu
      omega
    have v6 : up1 (gI (rz H (ζ + 1) q 0)) ζ 3 (gI (rz H (ζ + 1) q 0) ζ 3 + 1) (ζ + 3) 6 = Int32.ofNat (scB a) := by rw [up1_nc _ _ _ (by omega), rz_b _ _ _ _ (by omega)]; exact i6
    have sc : sCl X 0 a q = qb (tN X 1 61 q) fun p1 v => qb (tN X 0 10 p1) fun p2 w => .inr (p2, ((scB a + 1, scN a), (rw1 (scT a) (scB a) (Int32.ofNat v), rw1 (scG a) (scB a) (Int32.ofNat w)), a.2.2.1, scK a, scR a)) := rfl
    have gA : gT H (ζ + 4) = 31 ∧ ¬ (Int32.ofNat (scB a) < 0 ∨ gL H (ζ + 4) ≤ (Int32.ofNat (scB a)).toNatClampNeg) := ⟨t4, by rw [l4, j_ix (by omega) hB]; exact trivial⟩
    have gB : gT H (ζ + 5) = 31 ∧ ¬ (Int32.ofNat (scB a) < 0 ∨ gL H (ζ + 5) ≤ (Int32.ofNat (scB a)).toNatClampNeg) := ⟨t5, by rw [l5, j_ix (by omega) hB]; exact trivial⟩
    rw [sc, gT_rz, if_pos tz, if_pos tz, if_pos (show Int32.ofNat 0 = 0 from rfl), if_pos tz, gR_rz, r2, if_pos t3, if_pos tz, if_pos t3, if_pos tz, rz1, if_pos t1, v6, r4]
    have n1 := sp104 hb1 (d := d) (by omega) gw 0 (l := 1) (hs := 61) (by omega) (by omega) (hi := 60) (fun v hv => hi_lit (n := 60) (by omega) hv)
    have q1 := tN_g (X := X) (lo := 1) (hs := 61) gw
    revert n1 q1
    rcases tN X 1 61 q with ⟨kk, pl⟩ | ⟨p1, v⟩
    · intro n1 _
      refine ⟨fun k' pl' e => ?_, fun p' b' e => (by cases e)⟩
      cases e
      exact (s1.se n1 (by omega)).gc rfl
    intro n1 q1
    obtain ⟨a1, a2, a3, a4⟩ := q1
    have n1 : run gd_P0 d 104 [.ref (ζ + 1), .int 1, .int 60] (rz H1 (ζ + 1) q 0) = _ := n1
    have wv : wI (rz H1 (ζ + 1) p1 0) (up1 (gI (rz H1 (ζ + 1) p1 0)) (ζ + 4) (scB a) (Int32.ofNat v)) = rz (wI H1 (up1 (gI H1) (ζ + 4) (scB a) (Int32.ofNat v))) (ζ + 1) p1 0 := rz_wa (by omega) _ _ _ _
    have v6b : up1 (gI (rz H1 (ζ + 1) p1 0)) (ζ + 4) (scB a) (Int32.ofNat v) (ζ + 3) 6 = Int32.ofNat (scB a) := by rw [up1_nc _ _ _ (by omega), rz_b _ _ _ _ (by omega)]; exact j6
    rw [n1, gc_v, s286_120, gT_rz, gL_rz, T1, L1, if_pos gA, if_pos tz, gR_rz, R1, r2, if_pos t3, if_pos tz, if_pos t3, if_pos tz, rz1, if_pos t1, j_cl (by omega), v6b, wv, r5, qb_r]
    generalize eH2 : wI H1 (up1 (gI H1) (ζ + 4) (scB a) (Int32.ofNat v)) = H2
    have s2 : SQ h H2 ζ X := by rw [← eH2]; exact s1.wr (by omega) (by omega)
    have T2 : gT H2 = gT H := by rw [← eH2, gT_wI, T1]
    have L2 : gL H2 = gL H := by rw [← eH2, gL_wI, L1]
    have R2 : gR H2 = gR H := by rw [← eH2, gR_wI, R1]
    have n2 := sp104 s2.2.1 (d := d) (by omega) a2 0 (l := 0) (hs := 10) (by omega) (by omega) (hi := 9) (fun v hv => hi_lit (n := 9) (by omega) hv)
    have q2 := tN_g (X := X) (lo := 0) (hs := 10) a2
    revert n2 q2
    rcases tN X 0 10 p1 with ⟨kk, pl⟩ | ⟨p2, w⟩
    · intro n2 _
      refine ⟨fun k' pl' e => ?_, fun p' b' e => (by cases e)⟩
      cases e
      exact (s2.se n2 (by omega)).gc rfl
    intro n2 q2
    obtain ⟨b1, b2, b3, b4⟩ := q2
    have n2 : run gd_P0 d 104 [.ref (ζ + 1), .int 0, .int 9] (rz H2 (ζ + 1) p1 0) = _ := n2
    have i26 : gI H2 (ζ + 3) 6 = Int32.ofNat (scB a) := by rw [← eH2, gI_wI, up1_nc _ _ _ (by omega)]; exact j6
    have wv2 : wI (rz H2 (ζ + 1) p2 0) (up1 (up1 (gI (rz H2 (ζ + 1) p2 0)) (ζ + 5) (scB a) (Int32.ofNat w)) (ζ + 3) 6 (up1 (gI (rz H2 (ζ + 1) p2 0)) (ζ + 5) (scB a) (Int32.ofNat w) (ζ + 3) 6 + 1)) = rz (wI (wI H2 (up1 (gI H2) (ζ + 5) (scB a) (Int32.ofNat w))) (up1 (gI (wI H2 (up1 (gI H2) (ζ + 5) (scB a) (Int32.ofNat w)))) (ζ + 3) 6 (Int32.ofNat (scB a + 1)))) (ζ + 1) p2 0 := by
      rw [← rz_wa (h := wI H2 (up1 (gI H2) (ζ + 5) (scB a) (Int32.ofNat w))) (by omega), ← rz_wa (h := H2) (by omega), wI_wI, gI_wI, up1_nc (b := ζ + 3) _ _ _ (by omega), rz_b _ _ _ _ (by omega), i26, j_s]
    rw [n2, gc_v, s286_145, gT_rz, gL_rz, T2, L2, if_pos gB, if_pos tz, gR_rz, R2, r2, if_pos t3, if_pos t3, j_cl (by omega), wv2, qb_r]
    refine fin _ _ p2 ((s2.wr (by omega) (by omega)).wr (by omega) (by omega)) ?_ b2
    refine ⟨⟨?_, ?_, ?_⟩, fun k hk => ⟨?_, ?_⟩, fun p hp => ⟨?_, ?_, ?_⟩, fun m hm => ?_⟩
    · rw [gI_wI, up1_eq]; rfl
    · rw [gI_wI, up1_nj _ _ (by omega), gI_wI, up1_nc _ _ _ (by omega), ← eH2, gI_wI, up1_nc _ _ _ (by omega)]; exact j7
    · rw [gI_wI, up1_nc _ _ _ (by omega), gI_wI, up1_nc _ _ _ (by omega), ← eH2, gI_wI, up1_nc _ _ _ (by omega)]; exact j3
    · rw [gI_wI, up1_nc _ _ _ (by omega), gI_wI, up1_nc _ _ _ (by omega), ← eH2, gI_wI]
      show _ = rw1 (scT a) (scB a) (Int32.ofNat v) k
      by_cases z : k = scB a
      · rw [z, up1_eq, rw1_eq]
      · rw [up1_nj _ _ z, rw1_ne _ _ z]; exact (jT k hk).1
    · rw [gI_wI, up1_nc _ _ _ (by omega), gI_wI]
      show _ = rw1 (scG a) (scB a) (Int32.ofNat w) k
      by_cases z : k = scB a
      · rw [z, up1_eq, rw1_eq]
      · rw [up1_nj _ _ z, rw1_ne _ _ z, ← eH2, gI_wI, up1_nc _ _ _ (by omega)]; exact (jT k hk).2
    · rw [gI_wI, up1_nc _ _ _ (by omega), gI_wI, up1_nc _ _ _ (by omega), ← eH2, gI_wI, up1_nc _ _ _ (by omega)]; exact (jH p hp).1
    · rw [gI_wI, up1_nc _ _ _ (by omega), gI_wI, up1_nc _ _ _ (by omega), ← eH2, gI_wI, up1_nc _ _ _ (by omega)]; exact (jH p hp).2.1
    · rw [gI_wI, up1_nc _ _ _ (by omega), gI_wI, up1_nc _ _ _ (by omega), ← eH2, gI_wI, up1_nc _ _ _ (by omega)]; exact (jH p hp).2.2
    · rw [gI_wI, up1_nc _ _ _ (by omega), gI_wI, up1_nc _ _ _ (by omega), ← eH2, gI_wI, up1_nc _ _ _ (by omega)]; exact jR m hm
  · -- two numbers: 1
    have hB : scN a < 7 := by
      unfold sFull at fu
      rw [decide_eq_true_eq] at fu
      omega
    have v6 : up1 (gI (rz H (ζ + 1) q 0)) ζ 3 (gI (rz H (ζ + 1) q 0) ζ 3 + 1) (ζ + 3) 7 = Int32.ofNat (scN a) := by rw [up1_nc _ _ _ (by omega), rz_b _ _ _ _ (by omega)]; exact i7
    have sc : sCl X 1 a q = qb (tN X 1 201 q) fun p1 v => qb (tN X 0 10 p1) fun p2 w => .inr (p2, ((scB a, scN a + 1), a.2.1, (rw1 (scH a) (scN a) (Int32.ofNat v), rw1 (scF a) (scN a) (Int32.ofNat w)), scK a, scR a)) := rfl
    have gA : gT H (ζ + 6) = 31 ∧ ¬ (Int32.ofNat (scN a) < 0 ∨ gL H (ζ + 6) ≤ (Int32.ofNat (scN a)).toNatClampNeg) := ⟨t6, by rw [l6, j_ix (by omega) hB]; exact trivial⟩
    have gB : gT H (ζ + 7) = 31 ∧ ¬ (Int32.ofNat (scN a) < 0 ∨ gL H (ζ + 7) ≤ (Int32.ofNat (scN a)).toNatClampNeg) := ⟨t7, by rw [l7, j_ix (by omega) hB]; exact trivial⟩
    rw [sc, gT_rz, if_pos tz, if_pos tz, if_neg (show ¬ Int32.ofNat 1 = 0 by decide), if_pos (show Int32.ofNat 1 = 1 from rfl), if_pos tz, gR_rz, r2, if_pos t3, if_pos tz, if_pos t3, if_pos tz, rz1, if_pos t1, v6, r6]
    have n1 := sp104 hb1 (d := d) (by omega) gw 0 (l := 1) (hs := 201) (by omega) (by omega) (hi := 200) (fun v hv => hi_lit (n := 200) (by omega) hv)
    have q1 := tN_g (X := X) (lo := 1) (hs := 201) gw
    revert n1 q1
    rcases tN X 1 201 q with ⟨kk, pl⟩ | ⟨p1, v⟩
    · intro n1 _
      refine ⟨fun k' pl' e => ?_, fun p' b' e => (by cases e)⟩
      cases e
      exact (s1.se n1 (by omega)).gc rfl
    intro n1 q1
    obtain ⟨a1, a2, a3, a4⟩ := q1
    have n1 : run gd_P0 d 104 [.ref (ζ + 1), .int 1, .int 200] (rz H1 (ζ + 1) q 0) = _ := n1
    have wv : wI (rz H1 (ζ + 1) p1 0) (up1 (gI (rz H1 (ζ + 1) p1 0)) (ζ + 6) (scN a) (Int32.ofNat v)) = rz (wI H1 (up1 (gI H1) (ζ + 6) (scN a) (Int32.ofNat v))) (ζ + 1) p1 0 := rz_wa (by omega) _ _ _ _
    have v6b : up1 (gI (rz H1 (ζ + 1) p1 0)) (ζ + 6) (scN a) (Int32.ofNat v) (ζ + 3) 7 = Int32.ofNat (scN a) := by rw [up1_nc _ _ _ (by omega), rz_b _ _ _ _ (by omega)]; exact j7
    rw [n1, gc_v, s286_187, gT_rz, gL_rz, T1, L1, if_pos gA, if_pos tz, gR_rz, R1, r2, if_pos t3, if_pos tz, if_pos t3, if_pos tz, rz1, if_pos t1, j_cl (by omega), v6b, wv, r7, qb_r]
    generalize eH2 : wI H1 (up1 (gI H1) (ζ + 6) (scN a) (Int32.ofNat v)) = H2
    have s2 : SQ h H2 ζ X := by rw [← eH2]; exact s1.wr (by omega) (by omega)
    have T2 : gT H2 = gT H := by rw [← eH2, gT_wI, T1]
    have L2 : gL H2 = gL H := by rw [← eH2, gL_wI, L1]
    have R2 : gR H2 = gR H := by rw [← eH2, gR_wI, R1]
    have n2 := sp104 s2.2.1 (d := d) (by omega) a2 0 (l := 0) (hs := 10) (by omega) (by omega) (hi := 9) (fun v hv => hi_lit (n := 9) (by omega) hv)
    have q2 := tN_g (X := X) (lo := 0) (hs := 10) a2
    revert n2 q2
    rcases tN X 0 10 p1 with ⟨kk, pl⟩ | ⟨p2, w⟩
    · intro n2 _
      refine ⟨fun k' pl' e => ?_, fun p' b' e => (by cases e)⟩
      cases e
      exact (s2.se n2 (by omega)).gc rfl
    intro n2 q2
    obtain ⟨b1, b2, b3, b4⟩ := q2
    have n2 : run gd_P0 d 104 [.ref (ζ + 1), .int 0, .int 9] (rz H2 (ζ + 1) p1 0) = _ := n2
    have i27 : gI H2 (ζ + 3) 7 = Int32.ofNat (scN a) := by rw [← eH2, gI_wI, up1_nc _ _ _ (by omega)]; exact j7
    have wv2 : wI (rz H2 (ζ + 1) p2 0) (up1 (up1 (gI (rz H2 (ζ + 1) p2 0)) (ζ + 7) (scN a) (Int32.ofNat w)) (ζ + 3) 7 (up1 (gI (rz H2 (ζ + 1) p2 0)) (ζ + 7) (scN a) (Int32.ofNat w) (ζ + 3) 7 + 1)) = rz (wI (wI H2 (up1 (gI H2) (ζ + 7) (scN a) (Int32.ofNat w))) (up1 (gI (wI H2 (up1 (gI H2) (ζ + 7) (scN a) (Int32.ofNat w)))) (ζ + 3) 7 (Int32.ofNat (scN a + 1)))) (ζ + 1) p2 0 := by
      rw [← rz_wa (h := wI H2 (up1 (gI H2) (ζ + 7) (scN a) (Int32.ofNat w))) (by omega), ← rz_wa (h := H2) (by omega), wI_wI, gI_wI, up1_nc (b := ζ + 3) _ _ _ (by omega), rz_b _ _ _ _ (by omega), i27, j_s]
    rw [n2, gc_v, s286_212, gT_rz, gL_rz, T2, L2, if_pos gB, if_pos tz, gR_rz, R2, r2, if_pos t3, if_pos t3, j_cl (by omega), wv2, qb_r]
    refine fin _ _ p2 ((s2.wr (by omega) (by omega)).wr (by omega) (by omega)) ?_ b2
    refine ⟨⟨?_, ?_, ?_⟩, fun k hk => ⟨?_, ?_⟩, fun p hp => ⟨?_, ?_, ?_⟩, fun m hm => ?_⟩
    · rw [gI_wI, up1_nj _ _ (by omega), gI_wI, up1_nc _ _ _ (by omega), ← eH2, gI_wI, up1_nc _ _ _ (by omega)]; exact j6
    · rw [gI_wI, up1_eq]; rfl
    · rw [gI_wI, up1_nc _ _ _ (by omega), gI_wI, up1_nc _ _ _ (by omega), ← eH2, gI_wI, up1_nc _ _ _ (by omega)]; exact j3
    · rw [gI_wI, up1_nc _ _ _ (by omega), gI_wI, up1_nc _ _ _ (by omega), ← eH2, gI_wI, up1_nc _ _ _ (by omega)]; exact (jT k hk).1
    · rw [gI_wI, up1_nc _ _ _ (by omega), gI_wI, up1_nc _ _ _ (by omega), ← eH2, gI_wI, up1_nc _ _ _ (by omega)]; exact (jT k hk).2
    · rw [gI_wI, up1_nc _ _ _ (by omega), gI_wI, up1_nc _ _ _ (by omega), ← eH2, gI_wI]
      show _ = rw1 (scH a) (scN a) (Int32.ofNat v) p
      by_cases z : p = scN a
      · rw [z, up1_eq, rw1_eq]
      · rw [up1_nj _ _ z, rw1_ne _ _ z]; exact (jH p hp).1
    · rw [gI_wI, up1_nc _ _ _ (by omega), gI_wI]
      show _ = rw1 (scF a) (scN a) (Int32.ofNat w) p
      by_cases z : p = scN a
      · rw [z, up1_eq, rw1_eq]
      · rw [up1_nj _ _ z, rw1_ne _ _ z, ← eH2, gI_wI, up1_nc _ _ _ (by omega)]; exact (jH p hp).2.1
    · rw [gI_wI, up1_nc _ _ _ (by omega), gI_wI, up1_nc _ _ _ (by omega), ← eH2, gI_wI, up1_nc _ _ _ (by omega)]; exact (jH p hp).2.2
    · rw [gI_wI, up1_nc _ _ _ (by omega), gI_wI, up1_nc _ _ _ (by omega), ← eH2, gI_wI, up1_nc _ _ _ (by omega)]; exact jR m hm
  · -- kin
    rw [gT_rz, if_pos tz, if_pos tz, if_neg (show ¬ Int32.ofNat 2 = 0 by decide), if_neg (show ¬ Int32.ofNat 2 = 1 by decide), if_pos (show Int32.ofNat 2 = 2 from rfl), if_pos tz]
    obtain ⟨y1, y2⟩ := sp288 s1 si1 ha.2 gw (d := d) (by omega)
    have g := sCl_g (c := c) (k := 2) sg fu gw
    revert y1 y2 g
    rcases sCl X 2 a q with ⟨kk, pl⟩ | ⟨p1, b⟩
    · intro y1 _ _
      refine ⟨fun k' pl' e => ?_, fun p' b' e => (by cases e)⟩
      cases e
      exact (y1 _ _ rfl).gc rfl
    · intro _ y2 g
      obtain ⟨H2, e2, s2, si2⟩ := y2 p1 b rfl
      rw [e2, gc_n, s286_233, qb_r]
      exact fin H2 b p1 s2 si2 g.2.1
  · -- rain
    have sc : sCl X 3 a q = qb (tN X 0 12 q) fun p1 m => qb (tN X 0 10 p1) fun p2 v => .inr (p2, (a.1, a.2.1, a.2.2.1, scK a, rw1 (scR a) m (Int32.ofNat v))) := rfl
    rw [sc, gT_rz, if_pos tz, if_pos tz, if_neg (show ¬ Int32.ofNat 3 = 0 by decide), if_neg (show ¬ Int32.ofNat 3 = 1 by decide), if_neg (show ¬ Int32.ofNat 3 = 2 by decide), if_pos tz, gR_rz, rz1, if_pos t1]
    have n1 := sp104 hb1 (d := d) (by omega) gw 0 (l := 0) (hs := 12) (by omega) (by omega) (hi := 11) (fun v hv => hi_lit (n := 11) (by omega) hv)
    have q1 := tN_g (X := X) (lo := 0) (hs := 12) gw
    revert n1 q1
    rcases tN X 0 12 q with ⟨kk, pl⟩ | ⟨p1, m⟩
    · intro n1 _
      refine ⟨fun k' pl' e => ?_, fun p' b' e => (by cases e)⟩
      cases e
      exact (s1.se n1 (by omega)).gc rfl
    intro n1 q1
    obtain ⟨a1, a2, a3, a4⟩ := q1
    have n1 : run gd_P0 d 104 [.ref (ζ + 1), .int 0, .int 11] (rz H1 (ζ + 1) q 0) = _ := n1
    rw [n1, gc_v, s286_246, gT_rz, T1, if_pos tz, gR_rz, R1, r2, if_pos t3, if_pos tz, rz1, if_pos t1, r9, qb_r]
    have n2 := sp104 hb1 (d := d) (by omega) a2 0 (l := 0) (hs := 10) (by omega) (by omega) (hi := 9) (fun v hv => hi_lit (n := 9) (by omega) hv)
    have q2 := tN_g (X := X) (lo := 0) (hs := 10) a2
    revert n2 q2
    rcases tN X 0 10 p1 with ⟨kk, pl⟩ | ⟨p2, w⟩
    · intro n2 _
      refine ⟨fun k' pl' e => ?_, fun p' b' e => (by cases e)⟩
      cases e
      exact (s1.se n2 (by omega)).gc rfl
    intro n2 q2
    obtain ⟨b1, b2, b3, b4⟩ := q2
    have n2 : run gd_P0 d 104 [.ref (ζ + 1), .int 0, .int 9] (rz H1 (ζ + 1) p1 0) = _ := n2
    rw [n2, gc_v, s286_265, gT_rz, gL_rz, T1, L1, if_pos ⟨t9, by rw [l9, j_ix (by omega) a4]; exact trivial⟩, j_cl (by omega), rz_wa (by omega), qb_r]
    refine fin _ _ p2 (s1.wr (by omega) (by omega)) ?_ b2
    refine ⟨⟨?_, ?_, ?_⟩, fun k hk => ⟨?_, ?_⟩, fun p hp => ⟨?_, ?_, ?_⟩, fun j hj => ?_⟩
    · rw [gI_wI, up1_nc _ _ _ (by omega)]; exact j6
    · rw [gI_wI, up1_nc _ _ _ (by omega)]; exact j7
    · rw [gI_wI, up1_nc _ _ _ (by omega)]; exact j3
    · rw [gI_wI, up1_nc _ _ _ (by omega)]; exact (jT k hk).1
    · rw [gI_wI, up1_nc _ _ _ (by omega)]; exact (jT k hk).2
    · rw [gI_wI, up1_nc _ _ _ (by omega)]; exact (jH p hp).1
    · rw [gI_wI, up1_nc _ _ _ (by omega)]; exact (jH p hp).2.1
    · rw [gI_wI, up1_nc _ _ _ (by omega)]; exact (jH p hp).2.2
    · rw [gI_wI]
      show _ = rw1 (scR a) m (Int32.ofNat w) j
      by_cases z : j = m
      · rw [z, up1_eq, rw1_eq]
      · rw [up1_nj _ _ z, rw1_ne _ _ z]; exact jR j hj
theorem sOne_c {X : gdX} {c : Nat} {a : gdS} {p : Nat} {r : Nat × gdS} (hc : c ≤ 60) (h : sOne X c a p = .inr r) : c + 1 ≤ 60 := by
  by_cases z : c = 60
  · exfalso
    unfold sOne at h
    split at h
    · cases h
    · rw [if_pos (show sFull c _ a = true from decide_eq_true (Or.inl z))] at h
      cases h
  · omega
/-- the clauses -/
theorem lp285 {h : gd_H} {ζ : Nat} {X : gdX} {d : Nat} (hd : 8 ≤ d) : ∀ (f c p : Nat) (a : gdS) (H : gd_H), xn X < f + p → p ≤ xn X → SQ h H ζ X → ScI (gI H) ζ c a → SG a → c ≤ 60 →
    (∀ k pl, sLp X f c p a = .inl (k, pl) → SE h k pl (go gd_P0 d 285 0 [.ref ζ] [] (rz H (ζ + 1) p 0))) ∧ ∀ p' b, sLp X f c p a = .inr (p', b) → ∃ H' c', go gd_P0 d 285 0 [.ref ζ] [] (rz H (ζ + 1) p 0) = some (.inl (some (.ref (ζ + 3))), rz H' (ζ + 1) p' 0) ∧ SQ h H' ζ X ∧ ScI (gI H') ζ c' b ∧ SG b
  | 0, c, p, a, H, x0, x1, s, si, sg, hc => absurd x0 (by omega)
  | f + 1, c, p, a, H, x0, x1, s, si, sg, hc => by
    have hb := s.2.1
    have hX : XO X := hb.2.2.2.2
    have g1 := sk_ge X p
    have g2 := sk_le x1
    obtain ⟨t1, ⟨tz, r0, rz1, r2⟩, -⟩ := s.f
    rw [s285_0, gT_rz, if_pos tz, gR_rz, rz1, if_pos t1, sp97 hb (by omega) x1, gc_v, s285_7, sLp]
    have em : (xv X (sk X p) = -1) = (ch X (sk X p) = 256) := xv_m1 hX _
    simp only [em]
    by_cases ce : ch X (sk X p) = 256
    · rw [if_pos ce, if_pos ce, gT_rz, if_pos tz, gR_rz, r2]
      refine ⟨fun k pl e => (by cases e), fun p' b e => ?_⟩
      cases e
      exact ⟨H, c, rfl, s, si, sg⟩
    · rw [if_neg ce, if_neg ce, gT_rz, if_pos tz]
      have so : sOne X c a (sk X p) = sOne X c a p := by unfold sOne; rw [sk_sk x1]
      obtain ⟨y1, y2⟩ := sp286 s si hc sg g2 hd
      have g := sOne_g (X := X) (c := c) sg x1
      rw [so] at y1 y2
      have cc := fun r h => sOne_c (X := X) (c := c) (a := a) (p := p) (r := r) hc h
      revert y1 y2 g cc
      rcases sOne X c a p with ⟨kk, pl⟩ | ⟨p1, b⟩
      · intro y1 _ _ _
        refine ⟨fun k pl' e => ?_, fun p' b e => (by cases e)⟩
        cases e
        exact (y1 _ _ rfl).gc rfl
      · intro _ y2 g cc
        obtain ⟨H2, e2, s2, si2⟩ := y2 p1 b rfl
        rw [e2, gc_n, s285_15, qb_r]
        exact lp285 hd f (c + 1) p1 b H2 (by have := g.1; omega) g.2.1 s2 si2 g.2.2 (cc _ rfl)

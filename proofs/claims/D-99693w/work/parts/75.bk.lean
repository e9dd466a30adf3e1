/-! ===== THE CALL book ===== -/
set_option maxRecDepth 100000
def dB (D : gdD) (b : gdB) : gdD := (D.1, D.2.1, D.2.2.1, D.2.2.2.1, D.2.2.2.2.1, D.2.2.2.2.2.1, b, D.2.2.2.2.2.2.2)
/-- lines of a book in two rows of cells -/
def BkI (I : Nat → Nat → Int32) (α β : Nat) (b : gdB) : Prop := b.1 ≤ 6 ∧ (∀ k, k < b.1 → ∃ m, 1 ≤ m ∧ m ≤ 12 ∧ I α k = Int32.ofNat m ∧ I β k = b.2 m ∧ b.2 m ≠ -1) ∧ (∀ m, 1 ≤ m → m ≤ 12 → b.2 m ≠ -1 → ∃ k, k < b.1 ∧ I α k = Int32.ofNat m)
theorem XI.book {h : gd_H} {D : gdD} (hi : XI h D) (I' : Nat → Nat → Int32) {b : gdB} (h1 : ∀ q, q ≠ 96 → q ≠ 1217 → q ≠ 1218 → I' q = gI h q) (h2 : ∀ j, j ≠ 18 → I' 96 j = gI h 96 j) (h3 : I' 96 18 = Int32.ofNat b.1) (hb : BkI I' 1217 1218 b) : XI (wI h I') (dB D b) := by
  obtain ⟨hg, ⟨σ, ⟨s1, s2, s3⟩, s4, s5, s6, s7⟩, ⟨w1, w2⟩, ⟨i1, i2, i3⟩, ⟨t1, t2, t3⟩, fa, bk, rs, ⟨r0, r1⟩, lw, sz⟩ := hi
  have xc : ∀ {a : Nat} {r : gdR}, 96 < a → a ≤ 1196 → XC (gI h) a σ (dE D) (-1) r → XC I' a σ (dE D) (-1) r := fun ha1 ha2 hx => hx.eq fun q hq => h1 q (by omega) (by omega) (by omega)
  refine ⟨hg.wI _, ⟨σ, ⟨s1, s2, s3⟩, s4, fun k hk => ?_, fun k hk => ⟨(s6 k hk).1, xc (by omega) (by have hk : k ≤ dW D := hk; omega) (s6 k hk).2⟩, fun i hi k hk => ⟨(s7 i hi k hk).1, xc (by omega) (by have := i3 i hi; have hi : i < dNi D := hi; have hk : k ≤ dIw D i := hk; omega) (s7 i hi k hk).2⟩⟩, ⟨?_, w2⟩, ⟨?_, i2, fun i hi => ⟨?_, (i3 i hi).2⟩⟩, ⟨?_, t2, fun j hj => ?_⟩, ?_, ⟨h3, hb.1, fun k hk => ?_, fun m m1 m2 m3 => ?_⟩, ?_, ⟨?_, ?_⟩, ?_, sz⟩
  · show I' (σ + 1) k = _
    rw [h1 _ (by omega) (by omega) (by omega)]; exact s5 k hk
  · show I' 99 1 = _
    rw [h1 _ (by omega) (by omega) (by omega)]; exact w1
  · exact (h2 20 (by omega)).trans i1
  · show I' (374 + 274 * i) 1 = _
    have hi : i < dNi D := hi
    rw [h1 _ (by omega) (by omega) (by omega)]; exact (i3 i hi).1
  · exact (h2 16 (by omega)).trans t1
  · show I' 97 j &&& 255 = _
    rw [h1 _ (by omega) (by omega) (by omega)]; exact t3 j hj
  · exact (h2 17 (by omega)).trans fa
  · exact hb.2.1 k hk
  · exact hb.2.2 m m1 m2 m3
  · exact (h2 19 (by omega)).trans rs
  · show I' 1216 0 = _
    rw [h1 _ (by omega) (by omega) (by omega)]; exact r0
  · show I' 1216 1 = _
    rw [h1 _ (by omega) (by omega) (by omega)]; exact r1
  · exact lw.kp (Kp.wI (fun q hq => h1 q (by omega) (by omega) (by omega))) rfl rfl
def BD (D : gdD) : gdQ gdB → Value × gdD
  | .inl (k, pl) => (.int (Int32.ofNat k - 10), dF0 D (Int32.ofNat pl))
  | .inr (_, b) => (.int (Int32.ofNat b.1), dB (dF0 D (-1)) b)
/-- how the book's loop ends -/
def BO (h : gd_H) (D : gdD) (r : gdQ gdB) (out : Option gd_O) : Prop := ∃ h', out = some (.inl (some (BD D r).1), h') ∧ XI h' (BD D r).2 ∧ FX h h'
theorem c58 {h h3 : gd_H} {D : gdD} {c ρ a k pl : Nat} (hi : XI h D) (kx : Kx c h h3) (f0 : gI h3 96 16 = 0) {c2 : Nat} {h4 : gd_H} (w : WX ρ c2 h3 k pl a h4) (hρ : gS h ≤ ρ) (hc : c + c2 ≤ 2000) {d : Nat} (hd : 1 ≤ d) (w1 w2 w3 w4 w5 w6 w7 w8 : Value) : BO h D (.inl (k, pl)) (go gd_P0 d 58 150 [.ref 96, w1, w2, w3, w4, w5, w6, w7, w8] [.ref a] h4) := by
  have sz : 1264 < gS h := hi.2.2.2.2.2.2.2.2.2.2
  obtain ⟨kx4, e96⟩ := kx.kr w.2 (by omega) hρ (Nat.le_refl _)
  obtain ⟨h5, e5, x5, f5, t5⟩ := flt hi kx4 hc (by rw [e96]; exact f0) w.1.2.1 w.1.2.2.1 w.1.2.2.2 hd
  have t96 : gT h4 96 = 1 := (kx4.2.1 96 (by omega)).1.trans hi.1.1
  refine ⟨h5, ?_, x5, f5⟩
  rw [s58_150, if_pos t96, e5, gc_v, s58_158]
  rfl
theorem gx58 {h' : gd_H} {a pc : Nat} (ht : gT h' a = 11) (d : Nat) (L : List Value) (h1 : 28 ≤ pc) (h2 : pc < 147) : gx gd_P0 d 58 pc L a h' = go gd_P0 d 58 150 L [.ref a] h' := by
  refine gx_c _ _ _ _ _ _ _ _ ?_
  show gd_ctc (gT h' a) pc (gd_hd 58) = _
  rw [ht]
  show (if 28 ≤ pc ∧ pc < 147 then (if 11 ∈ [11] then some (some 150) else _) else _) = _
  rw [if_pos ⟨h1, h2⟩, if_pos (by decide)]
/-- one writes into a row that the call made -/
theorem Kx.wr {c : Nat} {h h1 : gd_H} (k : Kx c h h1) {a j : Nat} {v : Int32} (ha : gS h ≤ a) (hz : 96 < gS h) : Kx c h (wI h1 (up1 (gI h1) a j v)) :=
  ⟨k.1, fun b hb => ⟨(k.2.1 b hb).1, (k.2.1 b hb).2.1, (k.2.1 b hb).2.2.1, fun z => (up1_nc _ _ _ (by omega)).trans ((k.2.1 b hb).2.2.2 z)⟩, fun i i1 i2 => by rw [gI_wI, up1_nc _ _ _ (by omega)]; exact k.2.2 i i1 i2⟩
theorem RB.wr {h : gd_H} {ρ : Nat} {X : gdX} (hb : RB h ρ X) {a j : Nat} {v : Int32} (h1 : a ≠ ρ) (h2 : a ≠ 97) : RB (wI h (up1 (gI h) a j v)) ρ X := by
  obtain ⟨b0, b5, b6, b7⟩ := hb
  exact ⟨b0, by rw [gI_wI, up1_nc _ _ _ (fun z => h1 z.symm)]; exact b5, fun i hi => by rw [gI_wI, up1_nc _ _ _ (fun z => h2 z.symm)]; exact b6 i hi, b7⟩
theorem lpB {h : gd_H} {D : gdD} (hi : XI h D) (hD : DI D) {X : gdX} {α β ρ : Nat} (h1 : gS h ≤ α) (h2 : α < β) (h3 : β < ρ) {d : Nat} (hd : 6 ≤ d) : ∀ (f p : Nat) (a : gdB) (H : gd_H), xn X < f + p → p ≤ xn X → Kx 3 h H → RB H ρ X → (gT H α = 31 ∧ gL H α = 6 ∧ gT H β = 31 ∧ gL H β = 6) → (gI H 96 16 = 0 ∧ gI H 96 17 = -1) → BkI (gI H) α β a → BO h D (bLp X f p a) (go gd_P0 d 58 35 [.ref 96, .null, .ref α, .ref β, .int (Int32.ofNat a.1), .ref ρ, .null, .null, .null] [] (rz H ρ p 0))
  | 0, p, a, H, x0, x1, kx, hb, ht, hf, bk => absurd x0 (by omega)
  | f + 1, p, a, H, x0, x1, kx, hb, ht, hf, bk => by
    have sz : 1264 < gS h := hi.2.2.2.2.2.2.2.2.2.2
    have hX : XO X := hb.2.2.2.2
    have hn6 : xn X ≤ 600 := hX.1
    have hρ := hb.2.2.2.1
    have g1 := sk_ge X p
    have g2 := sk_le x1
    have sq := sk_sk x1
    obtain ⟨tα, lα, tβ, lβ⟩ := ht
    obtain ⟨bk1, bk2, bk3⟩ := id bk
    have T96 : gT H 96 = 1 := (kx.2.1 96 (by omega)).1.trans hi.1.1
    have tr : gT H ρ = 10 := hb.1.1
    rw [s58_35, gT_rz, if_pos tr, sp97 hb (by omega) x1, gc_v, s58_40]
    have em : (xv X (sk X p) = -1) = (ch X (sk X p) = 256) := xv_m1 hX _
    simp only [em]
    rw [bLp]
    by_cases ce : ch X (sk X p) = 256
    · -- the end
      rw [if_pos ce, if_pos ce, gT_rz, if_pos T96, if_pos T96, gR_rz, gL_rz]
      have R8 : gR H 96 8 = 1217 := by rw [(kx.2.1 96 (by omega)).2.2.1]; exact x_r8 hi.1
      have R9 : gR H 96 9 = 1218 := by rw [(kx.2.1 96 (by omega)).2.2.1]; exact x_r9 hi.1
      have t17 : gT H 1217 = 31 := (kx.2.1 1217 (by omega)).1.trans (x_t8 hi.1)
      have t18 : gT H 1218 = 31 := (kx.2.1 1218 (by omega)).1.trans (x_t9 hi.1)
      have l17 : gL H 1217 = 6 := (kx.2.1 1217 (by omega)).2.1.trans (x_l8 hi.1)
      have l18 : gL H 1218 = 6 := (kx.2.1 1218 (by omega)).2.1.trans (x_l9 hi.1)
      generalize eG : rz H ρ (sk X p) 0 = G
      have GT : gT G = gT H := by rw [← eG]; rfl
      have GL : gL G = gL H := by rw [← eG]; rfl
      have GR : gR G = gR H := by rw [← eG]; rfl
      have GI : ∀ b, b ≠ ρ → gI G b = gI H b := fun b hb => by rw [← eG]; exact rz_b _ _ _ _ hb
      have kxG : Kx 3 h G := by
        refine ⟨by rw [← eG]; exact kx.1, fun b hb => ?_, fun j j1 j2 => by rw [GI 96 (by omega)]; exact kx.2.2 j j1 j2⟩
        rw [GT, GL, GR, GI b (by omega)]
        exact kx.2.1 b hb
      have miG : XI G (dF0 D (-1)) := by
        have := hi.kx kxG (by rw [GI 96 (by omega)]; exact hf.1)
        rw [GI 96 (by omega), hf.2] at this
        exact this
      have cA : (gT H α = 31 ∧ gT H 1217 = 31) ∧ ((¬ (0 : Int32) < 0 ∧ ¬ (0 : Int32) < 0) ∧ (¬ (6 : Int32) < 0 ∧ (Int32.toNatClampNeg 0 + Int32.toNatClampNeg 6 ≤ gL H α ∧ Int32.toNatClampNeg 0 + Int32.toNatClampNeg 6 ≤ gL H 1217))) := ⟨⟨tα, t17⟩, ⟨by decide, by decide⟩, by decide, by rw [lα]; decide, by rw [l17]; decide⟩
      have cB : (gT H β = 31 ∧ gT H 1218 = 31) ∧ ((¬ (0 : Int32) < 0 ∧ ¬ (0 : Int32) < 0) ∧ (¬ (6 : Int32) < 0 ∧ (Int32.toNatClampNeg 0 + Int32.toNatClampNeg 6 ≤ gL H β ∧ Int32.toNatClampNeg 0 + Int32.toNatClampNeg 6 ≤ gL H 1218))) := ⟨⟨tβ, t18⟩, ⟨by decide, by decide⟩, by decide, by rw [lβ]; decide, by rw [l18]; decide⟩
      rw [R8, if_pos cA, s58_177]
      simp only [gT_wI, gR_wI, gL_wI, GT, GR, GL, gI_wI]
      rw [if_pos T96, R9, if_pos cB, s58_189]
      simp only [gT_wI, gR_wI, gL_wI, GT, GR, GL, gI_wI, wI_wI]
      rw [if_pos T96, show Int32.toNatClampNeg 0 = 0 from rfl, show Int32.toNatClampNeg 6 = 6 from rfl]
      generalize eI : cpy (cpy (up1 (gI G) 96 18 (Int32.ofNat a.1)) α 0 1217 0 6) β 0 1218 0 6 = I'
      have i18 : I' 96 18 = Int32.ofNat a.1 := by rw [← eI, cpy_ne _ (by omega), cpy_ne _ (by omega), up1_eq]
      have i1217 : ∀ k, k < 6 → I' 1217 k = gI H α k := fun k hk => by rw [← eI, cpy_ne _ (by omega), cpy_in _ hk, up1_nc _ _ _ (by omega), GI _ (by omega)]
      have i1218 : ∀ k, k < 6 → I' 1218 k = gI H β k := fun k hk => by rw [← eI, cpy_in _ hk, cpy_ne _ (by omega), up1_nc _ _ _ (by omega), GI _ (by omega)]
      have fb : ∀ q, q ≠ 96 → q ≠ 1217 → q ≠ 1218 → I' q = gI G q := fun q q1 q2 q3 => by rw [← eI, cpy_ne _ q3, cpy_ne _ q2, up1_nc _ _ _ q1]
      refine ⟨wI G I', by rw [i18]; rfl, miG.book I' fb (fun j hj => by rw [← eI, cpy_ne _ (by omega), cpy_ne _ (by omega), up1_nj _ _ hj]) i18 ⟨bk1, fun k hk => ?_, fun m m1 m2 m3 => ?_⟩, ?_⟩
      · rw [i1217 k (by omega), i1218 k (by omega)]; exact bk2 k hk
      · obtain ⟨k, k1, k2⟩ := bk3 m m1 m2 m3
        exact ⟨k, k1, by rw [i1217 k (by omega)]; exact k2⟩
      · have f := kxG.fx sz (by omega)
        exact ⟨f.1, fun b hb => ⟨(f.2 b hb).1, (f.2 b hb).2.1, (fb b (by omega) (by omega) (by omega)).trans (f.2 b hb).2.2.1, (f.2 b hb).2.2.2⟩⟩
    · rw [if_neg ce, if_neg ce, gT_rz, if_pos tr, sp99 hb (by omega) g2, sq, gc_v, s58_49, gT_rz, if_pos tr]
      unfold bOne
      have r1 := sp104 hb (d := d) (by omega) g2 0 (l := 1) (hs := 13) (by omega) (by omega) (hi := 12) (fun v hv => hi_lit (n := 12) (by omega) hv)
      have q1 := tN_g (X := X) (lo := 1) (hs := 13) x1
      rw [tN_sk x1] at r1
      revert r1 q1
      rcases tN X 1 13 p with ⟨kk, pl⟩ | ⟨p1, m⟩
      · rintro ⟨a', h', e, w⟩ -
        have e : run gd_P0 d 104 [.ref ρ, .int 1, .int 12] (rz H ρ (sk X p) 0) = _ := e
        rw [e, gc_x, gx58 w.1.2.1 _ _ (by omega) (by omega)]
        exact c58 hi kx hf.1 w (by omega) (by omega) (by omega) ..
      intro r1 q1
      obtain ⟨a1, a2, a3, a4⟩ := q1
      have r1 : run gd_P0 d 104 [.ref ρ, .int 1, .int 12] (rz H ρ (sk X p) 0) = _ := r1
      rw [r1, gc_v, s58_59, qb_r]
      -- the search
      have srch : go gd_P0 d 58 64 [.ref 96, .null, .ref α, .ref β, .int (Int32.ofNat a.1), .ref ρ, .int (Int32.ofNat (sk X p)), .int (Int32.ofNat m), .int (Int32.ofNat 0)] [] (rz H ρ p1 0) = fi (fun k => decide (gI H α k = Int32.ofNat m)) (fun k => go gd_P0 d 58 83 [.ref 96, .null, .ref α, .ref β, .int (Int32.ofNat a.1), .ref ρ, .int (Int32.ofNat (sk X p)), .int (Int32.ofNat m), .int (Int32.ofNat k)] [.ref (gS H)] (nw (rz H ρ p1 0) 11 0 8)) (go gd_P0 d 58 64 [.ref 96, .null, .ref α, .ref β, .int (Int32.ofNat a.1), .ref ρ, .int (Int32.ofNat (sk X p)), .int (Int32.ofNat m), .int (Int32.ofNat a.1)] [] (rz H ρ p1 0)) a.1 0 := by
        refine lp_fi (fun k => go gd_P0 d 58 64 [.ref 96, .null, .ref α, .ref β, .int (Int32.ofNat a.1), .ref ρ, .int (Int32.ofNat (sk X p)), .int (Int32.ofNat m), .int (Int32.ofNat k)] [] (rz H ρ p1 0)) (fun x => x) _ _ _ a.1 0 (fun k _ hk => ?_) (by rw [Nat.zero_add])
        have hk : k < a.1 := by omega
        try dsimp only
        rw [s58_64, if_neg (by rw [j_le (by omega) (by omega)]; omega), gT_rz, gL_rz, lα, if_pos ⟨tα, by rw [j_ix (by omega) (by omega)]; exact trivial⟩, j_cl (by omega), rz_b _ _ _ _ (by omega), gS_rz]
        by_cases z : gI H α k = Int32.ofNat m
        · rw [if_pos z, if_pos (by rw [z]; exact decide_eq_true rfl)]
        · rw [if_neg z, if_neg (by rw [decide_eq_false z]; decide), j_s]
      have srch : go gd_P0 d 58 64 [.ref 96, .null, .ref α, .ref β, .int (Int32.ofNat a.1), .ref ρ, .int (Int32.ofNat (sk X p)), .int (Int32.ofNat m), .int 0] [] (rz H ρ p1 0) = _ := srch
      rw [srch]
      have thr2 : ∀ (k pc0 pc1 pc2 : Nat) (u8 : Value), (pc0 = 83 ∧ k = 2) ∨ (pc0 = 107 ∧ k = 3) → BO h D (.inl (k, sk X p)) (go gd_P0 d 58 pc0 [.ref 96, .null, .ref α, .ref β, .int (Int32.ofNat a.1), .ref ρ, .int (Int32.ofNat (sk X p)), .int (Int32.ofNat m), u8] [.ref (gS H)] (nw (rz H ρ p1 0) 11 0 8)) := by
        intro k pc0 pc1 pc2 u8 hpc
        obtain ⟨h2, e2, w⟩ := wfl hb (Ke.nw H 11 0 8 (by omega)) (a := gS H) (by rw [gT_nw, if_pos rfl]) (Nat.le_refl _) k (sk X p) p1 0 (d := d) (by omega)
        have t2 : gT (rz (nw H 11 0 8) ρ p1 0) (gS H) = 11 := by rw [gT_rz, gT_nw, if_pos rfl]
        rw [nw_rz H _ _ _ _ _ hρ.2]
        rcases hpc with ⟨rfl, rfl⟩ | ⟨rfl, rfl⟩
        · have e2 : run gd_P0 d 111 [.ref (gS H), .int 2, .int (Int32.ofNat (sk X p))] (rz (nw H 11 0 8) ρ p1 0) = _ := e2
          rw [s58_83, if_pos t2, e2, gc_n, s58_90, if_pos w.1.1, gx58 w.1.2.1 _ _ (by omega) (by omega)]
          exact c58 hi kx hf.1 w (by omega) (by omega) (by omega) ..
        · have e2 : run gd_P0 d 111 [.ref (gS H), .int 3, .int (Int32.ofNat (sk X p))] (rz (nw H 11 0 8) ρ p1 0) = _ := e2
          rw [s58_107, if_pos t2, e2, gc_n, s58_114, if_pos w.1.1, gx58 w.1.2.1 _ _ (by omega) (by omega)]
          exact c58 hi kx hf.1 w (by omega) (by omega) (by omega) ..
      rcases fi_or (c := fun k => decide (gI H α k = Int32.ofNat m)) (R := fun k => go gd_P0 d 58 83 [.ref 96, .null, .ref α, .ref β, .int (Int32.ofNat a.1), .ref ρ, .int (Int32.ofNat (sk X p)), .int (Int32.ofNat m), .int (Int32.ofNat k)] [.ref (gS H)] (nw (rz H ρ p1 0) 11 0 8)) (e := go gd_P0 d 58 64 [.ref 96, .null, .ref α, .ref β, .int (Int32.ofNat a.1), .ref ρ, .int (Int32.ofNat (sk X p)), .int (Int32.ofNat m), .int (Int32.ofNat a.1)] [] (rz H ρ p1 0)) a.1 0 with ⟨f1, f2⟩ | ⟨k, f1, f2, f3, f4, f5⟩
      · have am : ¬ a.2 m ≠ -1 := by
          intro z
          obtain ⟨k, k1, k2⟩ := bk3 m a3 (by omega) z
          exact absurd (of_decide_eq_false (f2 k (by omega) (by omega))) (fun y => y k2)
        rw [f1, if_neg am, s58_64, if_pos (show Int32.ofNat a.1 ≤ Int32.ofNat a.1 from Int32.le_refl _)]
        by_cases c6 : a.1 = 6
        · rw [if_pos c6, if_pos (by rw [c6]; rfl), gS_rz]
          exact thr2 3 107 0 0 _ (Or.inr ⟨rfl, rfl⟩)
        · have e6 : ¬ Int32.ofNat a.1 = 6 := by rw [show (6 : Int32) = Int32.ofNat 6 from rfl, j_eq (by omega) (by omega)]; exact c6
          have wa : wI (rz H ρ p1 0) (up1 (gI (rz H ρ p1 0)) α a.1 (Int32.ofNat m)) = rz (wI H (up1 (gI H) α a.1 (Int32.ofNat m))) ρ p1 0 := rz_wa (by omega) _ _ _ _
          rw [if_neg c6, if_neg e6, gT_rz, gL_rz, lα, if_pos ⟨tα, by rw [j_ix (by omega) (by omega)]; exact trivial⟩, if_pos tr, j_cl (by omega), wa]
          generalize eH1 : wI H (up1 (gI H) α a.1 (Int32.ofNat m)) = H1
          have hb1 : RB H1 ρ X := by rw [← eH1]; exact hb.wr (by omega) (by omega)
          have kx1 : Kx 3 h H1 := by rw [← eH1]; exact kx.wr h1 (by omega)
          have f1 : gI H1 96 16 = 0 ∧ gI H1 96 17 = -1 := by rw [← eH1, gI_wI, up1_nc _ _ _ (by omega)]; exact hf
          have T1 : gT H1 = gT H := by rw [← eH1]; rfl
          have L1 : gL H1 = gL H := by rw [← eH1]; rfl
          have r2 := sp104 hb1 (d := d) (by omega) a2 0 (l := 0) (hs := 1000) (by omega) (by omega) (hi := 999) (fun v hv => hi_lit (n := 999) (by omega) hv)
          have q2 := tN_g (X := X) (lo := 0) (hs := 1000) a2
          revert r2 q2
          rcases tN X 0 1000 p1 with ⟨kk, pl⟩ | ⟨p2, v⟩
          · rintro ⟨a', h', e, w⟩ -
            have e : run gd_P0 d 104 [.ref ρ, .int 0, .int 999] (rz H1 ρ p1 0) = _ := e
            rw [e, gc_x, gx58 w.1.2.1 _ _ (by omega) (by omega)]
            exact c58 hi kx1 f1.1 w (by omega) (by omega) (by omega) ..
          intro r2 q2
          obtain ⟨b1, b2, b3, b4⟩ := q2
          have r2 : run gd_P0 d 104 [.ref ρ, .int 0, .int 999] (rz H1 ρ p1 0) = _ := r2
          have wb : wI (rz H1 ρ p2 0) (up1 (gI (rz H1 ρ p2 0)) β a.1 (Int32.ofNat v)) = rz (wI H1 (up1 (gI H1) β a.1 (Int32.ofNat v))) ρ p2 0 := rz_wa (by omega) _ _ _ _
          rw [r2, gc_v, s58_133, gT_rz, gL_rz, T1, L1, lβ, if_pos ⟨tβ, by rw [j_ix (by omega) (by omega)]; exact trivial⟩, if_pos tr, j_cl (by omega), wb, qb_r]
          generalize eH2 : wI H1 (up1 (gI H1) β a.1 (Int32.ofNat v)) = H2
          have hb2 : RB H2 ρ X := by rw [← eH2]; exact hb1.wr (by omega) (by omega)
          have kx2 : Kx 3 h H2 := by rw [← eH2]; exact kx1.wr (by omega) (by omega)
          have f2' : gI H2 96 16 = 0 ∧ gI H2 96 17 = -1 := by rw [← eH2, gI_wI, up1_nc _ _ _ (by omega)]; exact f1
          have r3 := sp106 hb2 (d := d) (by omega) b2 0 (c := 59) (by omega)
          have q3 := tS_g (X := X) (c := 59) (by decide) b2
          revert r3 q3
          rcases tS X 59 p2 with ⟨kk, pl⟩ | ⟨p3, ⟨⟩⟩
          · rintro ⟨a', h', e, w⟩ -
            have e : run gd_P0 d 106 [.ref ρ, .int 59] (rz H2 ρ p2 0) = _ := e
            rw [e, gc_x, gx58 w.1.2.1 _ _ (by omega) (by omega)]
            exact c58 hi kx2 f2'.1 w (by omega) (by omega) (by omega) ..
          intro r3 q3
          obtain ⟨c1, c2, -⟩ := q3
          have r3 : run gd_P0 d 106 [.ref ρ, .int 59] (rz H2 ρ p2 0) = _ := r3
          rw [r3, gc_n, s58_141, j_s, qb_r]
          have am2 : a.2 m = -1 := Classical.not_not.mp am
          have iα : ∀ k, gI H2 α k = if k = a.1 then Int32.ofNat m else gI H α k := by
            intro k
            rw [← eH2, gI_wI, up1_nc _ _ _ (by omega), ← eH1, gI_wI]
            by_cases z : k = a.1
            · rw [if_pos z, z, up1_eq]
            · rw [if_neg z, up1_nj _ _ z]
          have iβ : ∀ k, gI H2 β k = if k = a.1 then Int32.ofNat v else gI H β k := by
            intro k
            rw [← eH2, gI_wI]
            by_cases z : k = a.1
            · rw [if_pos z, z, up1_eq]
            · rw [if_neg z, up1_nj _ _ z, ← eH1, gI_wI, up1_nc _ _ _ (by omega)]
          refine lpB hi hD h1 h2 h3 hd f p3 (a.1 + 1, rw1 a.2 m (Int32.ofNat v)) H2 (by omega) c2 kx2 hb2 ?_ f2' ⟨by show a.1 + 1 ≤ 6; omega, fun k hk => ?_, fun m' m1 m2 m3 => ?_⟩
          · rw [← eH2, ← eH1]; exact ⟨tα, lα, tβ, lβ⟩
          · have hk : k < a.1 + 1 := hk
            rw [iα, iβ]
            by_cases z : k = a.1
            · refine ⟨m, a3, by omega, by rw [if_pos z], by rw [if_pos z]; exact (rw1_eq _ _ _).symm, ?_⟩
              show rw1 a.2 m (Int32.ofNat v) m ≠ -1
              rw [rw1_eq]
              intro y
              rw [j_m1 (by omega)] at y
              exact y
            · obtain ⟨m', y1, y2, y3, y4, y5⟩ := bk2 k (by omega)
              have mm : m' ≠ m := fun y => y5 (by rw [y]; exact am2)
              refine ⟨m', y1, y2, by rw [if_neg z]; exact y3, ?_, ?_⟩
              · rw [if_neg z]; show _ = rw1 a.2 m _ m'; rw [rw1_ne _ _ mm]; exact y4
              · show rw1 a.2 m _ m' ≠ -1; rw [rw1_ne _ _ mm]; exact y5
          · by_cases z : m' = m
            · exact ⟨a.1, by show a.1 < a.1 + 1; omega, by rw [iα, if_pos rfl, z]⟩
            · have m3 : rw1 a.2 m (Int32.ofNat v) m' ≠ -1 := m3
              rw [rw1_ne _ _ z] at m3
              obtain ⟨k, k1, k2⟩ := bk3 m' m1 m2 m3
              exact ⟨k, by show k < a.1 + 1; omega, by rw [iα, if_neg (by omega)]; exact k2⟩
      · have am : a.2 m ≠ -1 := by
          obtain ⟨m', y1, y2, y3, y4, y5⟩ := bk2 k (by omega)
          have y6 := of_decide_eq_true f3
          rw [y3, j_eq (by omega) (by omega)] at y6
          rw [← y6]; exact y5
        rw [f4, if_pos am]
        exact thr2 2 83 0 0 _ (Or.inl ⟨rfl, rfl⟩)
theorem x58 {D : gdD} {n : Nat} (hn : n ≤ dFed D) (hn5 : n ≤ 60) : XDo 58 [.int (Int32.ofNat n)] D (BD D (bBook (txt D n))).1 (BD D (bBook (txt D n))).2 := by
  intro d h hd hi hD hS
  obtain ⟨d, rfl⟩ : ∃ e, d = e + 1 := ⟨d - 1, by omega⟩
  obtain ⟨hg, -, -, -, ⟨t1, t2, t3⟩, -, -, -, -, -, sz⟩ := id hi
  have T96 : gT h 96 = 1 := hg.1
  have k1 := Ke.nw h 31 6 6 (by omega)
  have k2 : Ke 2 h (nw (nw h 31 6 6) 31 6 6) := k1.trans (Ke.nw _ 31 6 6 (by omega)) (by omega)
  obtain ⟨h2, e54, kx, S2, ⟨f16, f17⟩, hb, oT⟩ := sp54 hi hD k2 hn (d := d) (by omega)
  have S0 : gS (nw (nw h 31 6 6) 31 6 6) = gS h + 2 := by rw [gS_nw, gS_nw]
  rw [S0] at S2 hb oT e54
  have lim : ∃ m : Nat, (if (60 : Int32) < gI h 96 16 then (60 : Int32) else gI h 96 16) = Int32.ofNat m ∧ n ≤ m ∧ m ≤ 600 := by
    rw [t1]
    by_cases c : (60 : Int32) < Int32.ofNat (dFed D)
    · exact ⟨60, if_pos c, hn5, by omega⟩
    · exact ⟨dFed D, if_neg c, hn, t2⟩
  obtain ⟨m, em, m1, m2⟩ := lim
  have e53 := sp53 hg (d := d) (by omega) (v := Int32.ofNat n) (lo := 0) (hi := Int32.ofNat m) (by rw [j_neg (by omega)]; exact fun z => z) (by rw [j_lt (by omega) (by omega)]; omega)
  have t2' : gT (nw (nw h 31 6 6) 31 6 6) 96 = 1 := (k2.2 96 (by omega)).1.trans T96
  have S1 : gS (nw h 31 6 6) = gS h + 1 := rfl
  have tα : gT h2 (gS h) = 31 ∧ gL h2 (gS h) = 6 := by
    obtain ⟨x1, x2, -⟩ := oT (gS h) (by omega)
    rw [x1, x2, gT_nw, gL_nw, if_neg (by omega), if_neg (by omega), gT_nw, gL_nw, if_pos rfl, if_pos rfl]
    exact ⟨rfl, rfl⟩
  have tβ : gT h2 (gS h + 1) = 31 ∧ gL h2 (gS h + 1) = 6 := by
    obtain ⟨x1, x2, -⟩ := oT (gS h + 1) (by omega)
    rw [x1, x2, gT_nw, gL_nw, if_pos S1.symm, if_pos S1.symm]
    exact ⟨rfl, rfl⟩
  have out := lpB hi hD (X := txt D n) (α := gS h) (β := gS h + 1) (ρ := gS h + 2) (Nat.le_refl _) (by omega) (by omega) (d := d) (by omega) (n + 1) 0 (0, fun _ => -1) h2 (by show n < _; omega) (Nat.zero_le _) kx hb ⟨tα.1, tα.2, tβ.1, tβ.2⟩ ⟨f16, f17⟩ ⟨by decide, fun k hk => absurd hk (Nat.not_lt_zero k), fun m m1 m2 m3 => absurd rfl m3⟩
  obtain ⟨h3, e3, x3, f3⟩ := out
  refine ⟨h3, ?_, x3, f3⟩
  rw [r58, s58_0, if_pos T96, em, s58_12, if_pos T96, e53, gc_n, s58_15, show Int32.toNatClampNeg 6 = 6 from rfl, s58_19, show Int32.toNatClampNeg 6 = 6 from rfl, s58_24, if_pos t2', e54, gc_v, s58_33, S1]
  exact e3
theorem x58n {D : gdD} {v : Int32} (hf : dFed D ≤ 600) (hv : v < 0 ∨ Int32.ofNat (min (dFed D) 60) < v) : XNo 58 [.int v] D 25 := by
  intro d h hd hi hD
  obtain ⟨d, rfl⟩ : ∃ e, d = e + 1 := ⟨d - 1, by omega⟩
  obtain ⟨hg, -, -, -, ⟨t1, t2, t3⟩, -, -, -, -, -, sz⟩ := id hi
  have em : (if (60 : Int32) < gI h 96 16 then (60 : Int32) else gI h 96 16) = Int32.ofNat (min (dFed D) 60) := by
    rw [t1]
    simp only [show (60 : Int32) = Int32.ofNat 60 from rfl, j_lt (show 60 < 2147483648 by omega) (show dFed D < 2147483648 by omega)]
    by_cases c : 60 < dFed D
    · rw [if_pos c, Nat.min_eq_right (by omega)]
    · rw [if_neg c, Nat.min_eq_left (by omega)]
  rw [r58, s58_0, if_pos hg.1, em, s58_12, if_pos hg.1, sp53n hg (by omega) (by omega) hv, gc_x]
  exact gx_n (k := 58) (pc := 12) (t := 25) rfl
/-! the model -/
/-- the months read -/
def NB (I : Nat → Nat → Int32) (b : gdB) : Prop := b.1 ≤ 6 ∧ ∀ m, m < 13 → I 1254 m = b.2 m
theorem MI.book {h : gd_H} {D : gdD} (hi : MI h D) (I' : Nat → Nat → Int32) {b : gdB} (h1 : ∀ q, q ≠ 1231 → q ≠ 1255 → I' q = gI h q) (h2 : ∀ j, j ≠ 45 → I' 1231 j = gI h 1231 j) (h3 : I' 1231 45 = Int32.ofNat b.1) (hb : b.1 ≤ 6) (h4 : ∀ m, m < 13 → I' 1255 m = b.2 m) : MI (wI h I') (dB D b) := by
  obtain ⟨hm, hBN, ⟨i1, i2, i3⟩, i4, i5, i6, i7, i8, ⟨i9, i9'⟩, ⟨i10, i11, i12⟩, ⟨t1, t2, t3⟩, fa, ⟨b1, b2, b3⟩, rs, ⟨r0, r1⟩, lw⟩ := hi
  unfold MI MLx at *
  simp only [gI_wI, h2 20 (by omega), h2 21 (by omega), h2 33 (by omega), h2 34 (by omega), h2 42 (by omega), h2 28 (by omega), h2 56 (by omega), h2 2 (by omega), h2 8 (by omega), h1 1238 (by omega) (by omega), h1 1240 (by omega) (by omega), h1 1241 (by omega) (by omega), h1 1250 (by omega) (by omega), h1 1252 (by omega) (by omega), h1 1263 (by omega) (by omega), h1 1232 (by omega) (by omega), h1 1233 (by omega) (by omega), h1 1244 (by omega) (by omega), h1 1245 (by omega) (by omega)]
  exact ⟨hm, hBN, ⟨i1, i2, i3⟩, i4, i5, i6, i7, i8, ⟨i9, i9'⟩, ⟨i10, i11, i12⟩, ⟨t1, t2, t3⟩, fa, ⟨h3, hb, h4⟩, rs, ⟨r0, r1⟩, lw⟩
def MBO (h : gd_H) (D : gdD) (r : gdQ gdB) (out : Option gd_O) : Prop := ∃ h', out = some (.inl (some (BD D r).1), h') ∧ MI h' (BD D r).2 ∧ FM h h' ∧ gI h' 1231 0 = 0
/-- the faulty end -/
theorem c230 {h h' : gd_H} {D : gdD} {n k pl : Nat} (hi : MI h D) (me : ME (bgn h n) k pl h') (hp : pl < 100000) {d : Nat} (hd : 2 ≤ d) (a : Nat) : MBO h D (.inl (k, pl)) (go gd_P0 d 230 184 [.ref 1231, .null, .int (Int32.ofNat a), .null, .null, .null] [] h') := by
  have hm : MS (bgn h n) := hi.1
  have hbs := me.bs hm hp
  refine ⟨wI h' (up1 (gI h') 1231 8 (Int32.ofNat pl)), ?_, hi.f0 me.1.1 (Int32.ofNat pl), (bgn_fm h n).trans (me.1.1.fm.trans (FM.wI _ _ (fun b hb => up1_nc _ _ _ (by omega)))), ?_⟩
  · have n5 : ¬ gI (wI h' (up1 (gI h') 1231 8 (Int32.ofNat pl))) 1231 5 = -1 := by rw [gI_wI, up1_nj _ _ (by omega)]; exact hbs.2
    rw [s230_184, if_pos hbs.1.t, sp199 hbs me.2.1 me.2.2 (by omega), gc_v, s230_189, if_pos (hbs.1.wI _).t, if_neg n5]
    rfl
  · rw [gI_wI, up1_nj _ _ (by omega), me.1.2]; exact (bgn_f h n).1
theorem mpB {h : gd_H} {D : gdD} (hi : MI h D) {X : gdX} {n : Nat} {d : Nat} (hd : 4 ≤ d) : ∀ (f p : Nat) (a : gdB) (H : gd_H), xn X < f + p → p ≤ xn X → MZ0 (bgn h n) H → MB H X → gI H 1231 8 = -1 → NB (gI H) a → ∀ u3 u4 u5 : Value, MBO h D (bLp X f p a) (go gd_P0 d 230 67 [.ref 1231, .null, .int (Int32.ofNat a.1), u3, u4, u5] [] (mm H p 0))
  | 0, p, a, H, x0, x1, qz, hb, h8, nb, _, _, _ => absurd x0 (by omega)
  | f + 1, p, a, H, x0, x1, qz, hb, h8, nb, u3, u4, u5 => by
    have hX : XO X := hb.2.2.2
    have hn6 : xn X ≤ 600 := hX.1
    have hm := hb.1
    have g1 := sk_ge X p
    have g2 := sk_le x1
    have sq := sk_sk x1
    have f0 := (bgn_f h n).1
    obtain ⟨nb1, nb2⟩ := id nb
    -- after a fault nothing is read any more
    have tail : ∀ (h' : gd_H) (k pl : Nat) (v : Int32), ME (bgn h n) k pl h' → pl < 100000 → MBO h D (.inl (k, pl)) (go gd_P0 d 230 143 [.ref 1231, .null, .int (Int32.ofNat a.1), .int (Int32.ofNat (sk X p)), .int v, .null] [] h') := by
      intro h' k pl v me hp
      have hbs := me.bs (show MS (bgn h n) from hi.1) hp
      rw [s230_143, if_pos hbs.1.t, b195 hbs (by omega), gc_v, s230_151, if_pos hbs.1.t, b198 hbs (by omega), gc_n, s230_159, if_pos hbs.1.t, b185 hbs (by omega), gc_v, s230_163, if_pos rfl]
      have := c230 hi me hp (d := d) (by omega) a.1
      rw [s230_184] at this ⊢
      exact this
    have tail2 : ∀ (h' : gd_H) (k pl : Nat) (v : Int32), ME (bgn h n) k pl h' → pl < 100000 → MBO h D (.inl (k, pl)) (go gd_P0 d 230 124 [.ref 1231, .null, .int (Int32.ofNat a.1), .int (Int32.ofNat (sk X p)), .int v, .null] [] h') := by
      intro h' k pl v me hp
      have hbs := me.bs (show MS (bgn h n) from hi.1) hp
      rw [s230_124, if_pos hbs.1.t, b185 hbs (by omega), gc_v, s230_128, if_pos rfl]
      exact tail h' k pl v me hp
    have tail0 : ∀ (h' : gd_H) (k pl : Nat) (v : Int32) (u : Value), ME (bgn h n) k pl h' → pl < 100000 → MBO h D (.inl (k, pl)) (go gd_P0 d 230 184 [.ref 1231, .null, .int (Int32.ofNat a.1), .null, .int v, u] [] h') := by
      intro h' k pl v u me hp
      have := c230 hi me hp (d := d) (by omega) a.1
      rw [s230_184] at this ⊢
      exact this
    rw [s230_67, gT_mm, if_pos hm.t, m185 hb (by omega), gc_v, s230_71, if_neg (show ¬ (1 : Int32) = 0 by decide), gT_mm, if_pos hm.t, m186 hb (by omega) x1, gc_v, s230_78, bLp]
    by_cases ce : sk X p < xn X
    · have ce2 : ¬ ch X (sk X p) = 256 := by rw [ch_256 hX]; omega
      rw [if_pos ce, if_neg (show ¬ (1 : Int32) = 0 by decide), if_neg ce2, gT_mm, if_pos hm.t, m187 hb (by omega) g2, sq, gc_v, s230_85, gT_mm, if_pos hm.t, if_pos hm.t, mm_4]
      unfold bOne
      have r1 := m195 hb (d := d) (by omega) g2 0 (l := 1) (hs := 13) (by omega) (by omega) (hi := 12) (fun v hv => hi_lit (n := 12) (by omega) hv)
      have q1 := tN_g (X := X) (lo := 1) (hs := 13) x1
      rw [tN_sk x1] at r1
      revert r1 q1
      rcases tN X 1 13 p with ⟨kk, pl⟩ | ⟨p1, m⟩
      · rintro ⟨h', e, me⟩ q1
        have hp : pl < 100000 := by have := q1.2; omega
        have e : run gd_P0 d 195 [.ref 1231, .int 1, .int 12] (mm H (sk X p) 0) = _ := e
        have hbs := me.bs hm hp
        rw [e, gc_v, s230_98, if_pos hbs.1.t, b185 hbs (by omega), gc_v, s230_104, if_pos rfl]
        exact tail2 h' kk pl 0 (me.mz qz) hp
      intro r1 q1
      obtain ⟨a1, a2, a3, a4⟩ := q1
      have r1 : run gd_P0 d 195 [.ref 1231, .int 1, .int 12] (mm H (sk X p) 0) = _ := r1
      rw [r1, gc_v, s230_98, gT_mm, if_pos hm.t, m185 hb (by omega), gc_v, s230_104, if_neg (show ¬ (1 : Int32) = 0 by decide), gT_mm, gR_mm, gL_mm, if_pos hm.t, m_r43 hm, m_t43 hm, m_l43 hm, if_pos ⟨rfl, by rw [j_ix (by omega) (by omega)]; exact trivial⟩, j_cl (by omega), mm_b _ _ _ (by omega), nb2 m a4, qb_r]
      by_cases am : a.2 m = -1
      · rw [if_pos am, if_neg (fun z => z am), s230_124, gT_mm, if_pos hm.t, m185 hb (by omega), gc_v, s230_128, if_neg (show ¬ (1 : Int32) = 0 by decide)]
        by_cases c6 : a.1 = 6
        · obtain ⟨h', e1, me⟩ := m192 hb (d := d) (by omega) p1 0 3 (sk X p)
          have e1 : run gd_P0 d 192 [.ref 1231, .int 3, .int (Int32.ofNat (sk X p))] (mm H p1 0) = _ := e1
          rw [if_pos c6, if_pos (show Int32.ofNat a.1 = 6 by rw [c6]; rfl), gT_mm, if_pos hm.t, e1, gc_n]
          exact tail h' 3 (sk X p) (Int32.ofNat m) (me.mz qz) (by omega)
        · have e6 : ¬ Int32.ofNat a.1 = 6 := by rw [show (6 : Int32) = Int32.ofNat 6 from rfl, j_eq (by omega) (by omega)]; exact c6
          rw [if_neg c6, if_neg e6, s230_143, gT_mm, if_pos hm.t]
          have r2 := m195 hb (d := d) (by omega) a2 0 (l := 0) (hs := 1000) (by omega) (by omega) (hi := 999) (fun v hv => hi_lit (n := 999) (by omega) hv)
          have q2 := tN_g (X := X) (lo := 0) (hs := 1000) a2
          revert r2 q2
          rcases tN X 0 1000 p1 with ⟨kk, pl⟩ | ⟨p2, v⟩
          · rintro ⟨h', e, me⟩ q2
            have hp : pl < 100000 := by have := q2.2; omega
            have e : run gd_P0 d 195 [.ref 1231, .int 0, .int 999] (mm H p1 0) = _ := e
            have hbs := me.bs hm hp
            rw [e, gc_v, s230_151, if_pos hbs.1.t, b198 hbs (by omega), gc_n, s230_159, if_pos hbs.1.t, b185 hbs (by omega), gc_v, s230_163, if_pos rfl]
            exact tail0 h' kk pl _ _ (me.mz qz) hp
          intro r2 q2
          obtain ⟨b1, b2, b3, b4⟩ := q2
          have r2 : run gd_P0 d 195 [.ref 1231, .int 0, .int 999] (mm H p1 0) = _ := r2
          rw [r2, gc_v, s230_151, gT_mm, if_pos hm.t, qb_r]
          have r3 := m198 hb (d := d) (by omega) b2 0 (c := 59) (by omega) (by omega)
          have q3 := tS_g (X := X) (c := 59) (by decide) b2
          revert r3 q3
          rcases tS X 59 p2 with ⟨kk, pl⟩ | ⟨p3, ⟨⟩⟩
          · rintro ⟨h', e, me⟩ q3
            have hp : pl < 100000 := by have := q3.2; omega
            have e : run gd_P0 d 198 [.ref 1231, .int 59] (mm H p2 0) = _ := e
            have hbs := me.bs hm hp
            rw [e, gc_n, s230_159, if_pos hbs.1.t, b185 hbs (by omega), gc_v, s230_163, if_pos rfl]
            exact tail0 h' kk pl _ _ (me.mz qz) hp
          intro r3 q3
          obtain ⟨c1, c2, -⟩ := q3
          have r3 : run gd_P0 d 198 [.ref 1231, .int 59] (mm H p2 0) = _ := r3
          rw [r3, gc_n, s230_159, gT_mm, if_pos hm.t, m185 hb (by omega), gc_v, s230_163, if_neg (show ¬ (1 : Int32) = 0 by decide), gT_mm, gR_mm, gL_mm, if_pos hm.t, m_r43 hm, m_t43 hm, m_l43 hm, if_pos ⟨rfl, by rw [j_ix (by omega) (by omega)]; exact trivial⟩, j_cl (by omega), j_s, mm_wa (Or.inl (by omega)), qb_r]
          generalize eH : wI H (up1 (gI H) 1254 m (Int32.ofNat v)) = H2
          have q2' : MZ0 H H2 := by
            rw [← eH]
            exact ⟨MZ.i fun b hb => up1_nc _ _ _ (by unfold mper at hb; omega), by rw [gI_wI, up1_nc _ _ _ (by omega)]⟩
          have hb2 : MB H2 X := by
            rw [← eH]
            obtain ⟨y1, y2, y3, y4⟩ := hb
            exact ⟨y1.wI _, by rw [gI_wI, up1_nc _ _ _ (by omega)]; exact y2, fun j hj => by rw [gI_wI, up1_nc _ _ _ (by omega)]; exact y3 j hj, y4⟩
          refine mpB hi hd f p3 (a.1 + 1, rw1 a.2 m (Int32.ofNat v)) H2 (by omega) c2 (qz.trans q2') hb2 (by rw [← eH, gI_wI, up1_nc _ _ _ (by omega)]; exact h8) ⟨by show a.1 + 1 ≤ 6; omega, fun m' hm' => ?_⟩ _ _ _
          rw [← eH, gI_wI]
          show _ = rw1 a.2 m _ m'
          by_cases z : m' = m
          · rw [z, up1_eq, rw1_eq]
          · rw [up1_nj _ _ z, rw1_ne _ _ z]; exact nb2 m' hm'
      · obtain ⟨h', e1, me⟩ := m192 hb (d := d) (by omega) p1 0 2 (sk X p)
        have e1 : run gd_P0 d 192 [.ref 1231, .int 2, .int (Int32.ofNat (sk X p))] (mm H p1 0) = _ := e1
        rw [if_neg am, if_pos am, if_pos hm.t, e1, gc_n]
        exact tail2 h' 2 (sk X p) (Int32.ofNat m) (me.mz qz) (by omega)
    · have ce2 : ch X (sk X p) = 256 := by rw [ch_256 hX]; omega
      rw [if_neg ce, if_pos rfl, if_pos ce2, s230_184, gT_mm, if_pos hm.t, sp199g hb _ _ h8 (by omega), gc_v, s230_189]
      generalize eG : mm H (sk X p) 0 = G
      have mG : MS G := by rw [← eG]; exact hm
      have Gb : ∀ b, b ≠ 1231 → gI G b = gI H b := fun b hb => by rw [← eG]; exact mm_b _ _ _ hb
      have Gj : ∀ j, j ≠ 4 → j ≠ 7 → gI G 1231 j = gI H 1231 j := fun j j1 j2 => by rw [← eG]; exact mm_j _ _ _ j1 j2
      have qG : MZ0 (bgn h n) G := by rw [← eG]; exact qz.trans (MZ0.mm _ _ _)
      have miG : MI G (dF0 D (-1)) := by
        have := hi.f0 qG.1 (-1)
        rw [up1_id ((Gj 8 (by omega) (by omega)).trans h8), wI_self] at this
        exact this
      have c1 := sp179 (h := wI G (up1 (gI G) 1231 45 (Int32.ofNat a.1))) (a := 1254) (b := 1255) (n := 13) (m_t43 mG) (m_t44 mG) (m_l43 mG) (m_l44 mG) (Nat.le_refl _) (Nat.le_refl _) (by omega) (by omega) 1231 (d := d) (by omega)
      have c1 : run gd_P0 d 179 [.ref 1231, .ref 1254, .ref 1255, .int 13] (wI G (up1 (gI G) 1231 45 (Int32.ofNat a.1))) = _ := c1
      refine ⟨wI G (cpy (up1 (gI G) 1231 45 (Int32.ofNat a.1)) 1254 0 1255 0 13), ?_, miG.book _ (fun q q1 q2 => by rw [cpy_ne _ q2, up1_nc _ _ _ q1]) (fun j hj => by rw [cpy_ne _ (by omega), up1_nj _ _ hj]) (by rw [cpy_ne _ (by omega), up1_eq]) nb1 (fun m hm => by rw [cpy_in _ hm, up1_nc _ _ _ (by omega), Gb _ (by omega)]; exact nb2 m hm), ?_, ?_⟩
      · rw [if_pos mG.t, if_pos ((Gj 5 (by omega) (by omega)).trans hb.2.1.2), if_pos mG.t, if_pos mG.t, if_pos mG.t, if_pos mG.t, m_r43 mG, m_r44 mG, c1, gc_n, s230_219]
        rfl
      · exact (bgn_fm h n).trans (qG.1.fm.trans (FM.wI _ _ fun b hb => by rw [cpy_ne _ (by omega), up1_nc _ _ _ (by omega)]))
      · rw [gI_wI, cpy_ne _ (by omega), up1_nj _ _ (by omega), qG.2]; exact f0
theorem m230 {D : gdD} {n : Nat} (hn : n ≤ dFed D) (hn5 : n ≤ 60) : MDo 230 [.int (Int32.ofNat n)] D (BD D (bBook (txt D n))).1 (BD D (bBook (txt D n))).2 := by
  intro d h hd hi hD hS
  obtain ⟨d, rfl⟩ : ∃ e, d = e + 1 := ⟨d - 1, by omega⟩
  obtain ⟨hm, -, -, -, -, -, -, -, -, -, ⟨t1, t2, t3⟩, -⟩ := id hi
  obtain ⟨f0, f2, f8, f3, f4, f5, f7⟩ := bgn_f h n
  have hb0 := bgn_MB hi hD hn
  have z1 : ¬ Int32.ofNat n < 0 := by rw [j_neg (by omega)]; exact fun z => z
  have z2 : ¬ (up1 (gI h) 1231 0 0 1231 2) < Int32.ofNat n := by rw [up1_nj _ _ (by omega), t1, j_lt (by omega) (by omega)]; omega
  have z3 : ¬ (60 : Int32) < Int32.ofNat n := by rw [show (60 : Int32) = Int32.ofNat 60 from rfl, j_lt (by omega) (by omega)]; omega
  have L := lp_e (fun i I => go gd_P0 d 230 46 [.ref 1231, .null, .int (Int32.ofNat i), .null, .null, .null] [] (wI (bgn h n) I)) (fun i I => (∀ b, b ≠ 1254 → I b = gI (bgn h n) b) ∧ ∀ j, j < i → I 1254 j = -1) 13 (gI (bgn h n)) ⟨fun _ _ => rfl, fun j hj => absurd hj (Nat.not_lt_zero j)⟩ ?_
  · obtain ⟨I, e, i1, i2⟩ := L
    have e : go gd_P0 d 230 46 [.ref 1231, .null, .int 0, .null, .null, .null] [] (bgn h n) = go gd_P0 d 230 46 [.ref 1231, .null, .int 13, .null, .null, .null] [] (wI (bgn h n) I) := e
    have qz : MZ0 (bgn h n) (wI (bgn h n) I) := ⟨MZ.i fun b hb => i1 b (by unfold mper at hb; omega), by rw [gI_wI, i1 _ (by omega)]⟩
    have hb2 : MB (wI (bgn h n) I) (txt D n) := by
      obtain ⟨y1, y2, y3, y4⟩ := hb0
      exact ⟨y1.wI _, by rw [gI_wI, i1 _ (by omega)]; exact y2, fun j hj => by rw [gI_wI, i1 _ (by omega)]; exact y3 j hj, y4⟩
    have eM : mm (wI (bgn h n) I) 0 0 = wI (bgn h n) I := mm_self (by rw [gI_wI, i1 _ (by omega)]; exact f4) (by rw [gI_wI, i1 _ (by omega)]; exact f7)
    have out := mpB hi (X := txt D n) (n := n) (d := d) (by omega) (n + 1) 0 (0, fun _ => -1) (wI (bgn h n) I) (by show n < _; omega) (Nat.zero_le _) qz hb2 (by rw [gI_wI, i1 _ (by omega)]; exact f8) ⟨by decide, fun m hm => i2 m hm⟩ .null .null .null
    rw [eM] at out
    obtain ⟨h3, e3, m3, f3', z3'⟩ := out
    refine ⟨h3, ?_, m3, f3', z3'⟩
    rw [r230, s230_0, if_pos hm.t, if_neg z1, if_pos hm.t, if_neg z2, if_neg z3, s230_29, gT_wI, if_pos hm.t, sp183 (hm.wI _) (by rw [gI_wI, up1_eq]) (by omega), gc_v, s230_34, if_neg (show ¬ (1 : Int32) = 0 by decide), gT_wI, if_pos hm.t, sp184 hm n (by omega), gc_n, s230_44, e, s230_46, if_pos (by decide)]
    exact e3
  · intro i hi13 I ⟨i1, i2⟩
    have mG : MS (wI (bgn h n) I) := hb0.1.wI _
    refine ⟨up1 I 1254 i (-1), ?_, fun b hb => by rw [up1_nc _ _ _ hb]; exact i1 b hb, fun j hj => ?_⟩
    · try dsimp only
      rw [s230_46, if_neg (by rw [show (12 : Int32) = Int32.ofNat 12 from rfl, j_lt (by omega) (by omega)]; omega), if_pos mG.t, m_r43 mG, m_t43 mG, m_l43 mG, if_pos ⟨rfl, by rw [j_ix (by omega) (by omega)]; exact trivial⟩, j_cl (by omega), j_s, wI_wI, gI_wI]
    · by_cases z : j = i
      · rw [z, up1_eq]
      · rw [up1_nj _ _ z]; exact i2 j (by omega)
theorem m230n {D : gdD} {v : Int32} (hf : dFed D ≤ 600) (hv : v < 0 ∨ Int32.ofNat (min (dFed D) 60) < v) : MNo 230 [.int v] D 25 1 (.int 0) := by
  intro d h hd hi hD
  obtain ⟨d, rfl⟩ : ∃ e, d = e + 1 := ⟨d - 1, by omega⟩
  obtain ⟨hm, -, -, -, -, -, -, -, -, -, ⟨t1, t2, t3⟩, -⟩ := id hi
  have e183 := sp183n (h := wI h (up1 (gI h) 1231 0 0)) (hm.wI _) (by rw [gI_wI, up1_eq]) (d := d) (by omega) (c := 1) (by decide) 25 (by omega) (by omega)
  rw [mthr_z] at e183
  have E : go gd_P0 d 230 28 [.ref 1231, .int v, .null, .null, .null, .null] [.ref 1231] (wI h (up1 (gI h) 1231 0 0)) = some (.inl (some (.int 0)), mthr 25 1 h) := by
    rw [s230_28, s230_29, gT_wI, if_pos hm.t]
    refine Eq.trans (congrArg (gc gd_P0 d 230 31 34 _ _) e183) ?_
    rw [gc_v, s230_34, if_pos rfl]
  rw [r230, s230_0, if_pos hm.t]
  by_cases c1 : v < 0
  · rw [if_pos c1]; exact E
  rw [if_neg c1, if_pos hm.t, up1_nj _ _ (by omega), t1]
  by_cases c2 : Int32.ofNat (dFed D) < v
  · rw [if_pos c2]; exact E
  rw [if_neg c2]
  have c3 : (60 : Int32) < v := by
    rcases hv with hv | hv
    · exact absurd hv c1
    · by_cases q : dFed D ≤ 60
      · rw [Nat.min_eq_left q] at hv; exact absurd hv c2
      · rw [Nat.min_eq_right (by omega)] at hv; exact hv
  rw [if_pos c3]; exact E
theorem BD_i {D : gdD} (hD : DI D) (r : gdQ gdB) : DI (BD D r).2 := by
  rcases r with ⟨k, pl⟩ | ⟨p, b⟩
  · exact hD.f0 _
  · exact hD.f0 (-1)

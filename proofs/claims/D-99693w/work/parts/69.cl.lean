/-! ===== THE CLASS's LAW, READ ===== -/
set_option maxRecDepth 100000
/-- a term in the cells from lo on, below hi -/
def TW (h : gd_H) (lo hi : Nat) : Nat → Nat → gdV → Prop
  | 0, _, _ => False
  | n + 1, t, V => (lo ≤ t ∧ t < hi) ∧ ((gT h t = 14 ∧ ∃ k, k ≤ 999 ∧ gI h t 0 = Int32.ofNat k ∧ V = fun _ => Int32.ofNat k) ∨ (gT h t = 15 ∧ ∃ w, w < 8 ∧ gI h t 0 = Int32.ofNat w ∧ V = fun f => f w) ∨
      (gT h t = 13 ∧ ∃ k V1 V2, (2 ≤ k ∧ k ≤ 8) ∧ gI h t 0 = Int32.ofNat (sgn k) ∧ TW h lo hi n (gR h t 1) V1 ∧ TW h lo hi n (gR h t 2) V2 ∧ V = fun f => pBin k (V1 f) (V2 f)))
theorem TW_cg {h h' : gd_H} {lo hi lo' hi' : Nat} (h1 : lo' ≤ lo) (h2 : hi ≤ hi') (hc : ∀ b, lo ≤ b → b < hi → gT h' b = gT h b ∧ gI h' b = gI h b ∧ gR h' b = gR h b) : ∀ (n m t : Nat) (V : gdV), n ≤ m → TW h lo hi n t V → TW h' lo' hi' m t V
  | 0, m, t, V, _, hh => hh.elim
  | n + 1, m, t, V, hm, hh => by
    obtain ⟨m, rfl⟩ : ∃ e, m = e + 1 := ⟨m - 1, by omega⟩
    obtain ⟨⟨a1, a2⟩, hh⟩ := hh
    obtain ⟨c1, c2, c3⟩ := hc t a1 a2
    refine ⟨⟨by omega, by omega⟩, ?_⟩
    rw [c1, c2, c3]
    rcases hh with hh | hh | ⟨ht, k, V1, V2, b1, b2, b3, b4, b5⟩
    · exact Or.inl hh
    · exact Or.inr (Or.inl hh)
    · exact Or.inr (Or.inr ⟨ht, k, V1, V2, b1, b2, TW_cg h1 h2 hc n m _ _ (by omega) b3, TW_cg h1 h2 hc n m _ _ (by omega) b4, b5⟩)
theorem TW_TV {h : gd_H} {lo hi : Nat} (h1 : 1264 < lo) (h2 : hi ≤ gS h) : ∀ (n t : Nat) (V : gdV), TW h lo hi n t V → TV h n t V
  | 0, t, V, hh => hh.elim
  | n + 1, t, V, hh => by
    obtain ⟨⟨a1, a2⟩, hh⟩ := hh
    refine ⟨⟨by omega, by omega⟩, ?_⟩
    rcases hh with hh | hh | ⟨ht, k, V1, V2, b1, b2, b3, b4, b5⟩
    · exact Or.inl hh
    · exact Or.inr (Or.inl hh)
    · exact Or.inr (Or.inr ⟨ht, k, V1, V2, b1, b2, TW_TV h1 h2 n _ _ b3, TW_TV h1 h2 n _ _ b4, b5⟩)
/-- a law's reader -/
def LB (h : gd_H) (lm ρ ω : Nat) : Prop := (gT h lm = 12 ∧ gR h lm 1 = ρ ∧ gR h lm 0 = ω) ∧ (gT h ω = 38 ∧ gL h ω = 8 ∧ ∀ i, i < 8 → gR h ω i = 8 + 2 * (4 + i)) ∧ (lm < gS h ∧ ω < gS h ∧ ω ≠ ρ)
theorem LB.ke {h h' : gd_H} {lm ρ ω c : Nat} (hb : LB h lm ρ ω) (k : Ke c h h') : LB h' lm ρ ω := by
  obtain ⟨⟨b1, b2, b3⟩, ⟨b4, b5, b6⟩, b7, b8, b9⟩ := hb
  obtain ⟨x1, x2, x3, x4⟩ := k.2 lm b7
  obtain ⟨y1, y2, y3, y4⟩ := k.2 ω b8
  exact ⟨⟨x1.trans b1, by rw [x4]; exact b2, by rw [x4]; exact b3⟩, ⟨y1.trans b4, y2.trans b5, by rw [y4]; exact b6⟩, Nat.lt_of_lt_of_le b7 k.1.1, Nat.lt_of_lt_of_le b8 k.1.1, b9⟩
/-- how a reading of a law's part ends -/
def LO (ρ : Nat) (h : gd_H) (o p : Nat) : gdQ gdK → Option gd_O → Prop
  | .inl (k, pl), out => WE ρ (700 - p) h k pl out
  | .inr (p', a), out => ∃ h' t, out = some (.inl (some (.ref t)), rz h' ρ p' o) ∧ Ke (p' - p) h h' ∧ TW h' (gS h) (gS h') (p' - p) t a.2
def LVs (X : gdX) (o : Nat) (u : Nat → gdQ gdK) (k dm : Nat) : Prop := ∀ (d : Nat) (h : gd_H) (ρ lm ω p : Nat), dm ≤ d → RB h ρ X → SK h → LB h lm ρ ω → p ≤ xn X → LO ρ h o p (u p) (run gd_P0 d k [.ref lm] (rz h ρ p o))
theorem c117 : ∀ c, c < 128 → ((Int32.ofNat c).toUInt32.toUInt16.toUInt32.toInt32 = Int32.ofNat c ∧ (0 ≤ Int32.ofNat c ∧ Int32.ofNat c ≤ 65535)) := by decide +kernel
theorem sgn_lt (k : Nat) : sgn k < 128 := by
  unfold sgn
  repeat' split
  all_goals decide
theorem rz_wa {h : gd_H} {ρ a : Nat} (ha : a ≠ ρ) (p o k : Nat) (v : Int32) : wI (rz h ρ p o) (up1 (gI (rz h ρ p o)) a k v) = rz (wI h (up1 (gI h) a k v)) ρ p o := by
  unfold rz
  rw [wI_wI, wI_wI]
  congr 1
  funext b j
  simp only [gI_wI, up1]
  by_cases z : b = a
  · have : b ≠ ρ := by omega
    simp [z, ha]
  · simp [z]
theorem rz_wR (h : gd_H) (ρ p o : Nat) (R' : Nat → Nat → Nat) : wR (rz h ρ p o) R' = rz (wR h R') ρ p o := rfl
/-- two by a sign are made -/
theorem mk2 {h0 h2 : gd_H} {ρ c a n t1 t2 l1 u1 l2 u2 k : Nat} {V1 V2 : gdV} {X : gdX} (hb : RB h0 ρ X) (kc : Ke c h0 h2) (ha : gT h2 a = 13) (ha1 : gS h0 ≤ a) (ha2 : a < gS h2) (hk : 2 ≤ k ∧ k ≤ 8)
    (w1 : TW h2 l1 u1 n t1 V1) (x1 : gS h0 ≤ l1) (x2 : u1 ≤ gS h2) (x3 : a < l1 ∨ u1 ≤ a) (w2 : TW h2 l2 u2 n t2 V2) (y1 : gS h0 ≤ l2) (y2 : u2 ≤ gS h2) (y3 : a < l2 ∨ u2 ≤ a) (p o : Nat) {d : Nat} (hd : 1 ≤ d) {sg : Int32} (hs : sg = Int32.ofNat (sgn k)) :
    ∃ h3, run gd_P0 d 117 [.ref a, .int sg, .ref t1, .ref t2] (rz h2 ρ p o) = some (.inl none, rz h3 ρ p o) ∧ Ke c h0 h3 ∧ gS h3 = gS h2 ∧ TW h3 (gS h0) (gS h3) (n + 1) a (fun f => pBin k (V1 f) (V2 f)) := by
  obtain ⟨d, rfl⟩ : ∃ e, d = e + 1 := ⟨d - 1, by omega⟩
  have hρ := hb.2.2.2.1
  subst hs
  refine ⟨wR (wI h2 (up1 (gI h2) a 0 (Int32.ofNat (sgn k)))) (up1 (up1 (gR h2) a 1 t1) a 2 t2), ?_, kc.w _ _ (fun b hb => up1_nc _ _ _ (by omega)) (fun b hb => by rw [up1_nc _ _ _ (by omega), up1_nc _ _ _ (by omega)]), rfl, ?_⟩
  · rw [r117, s117_0, if_pos (by omega), s117_4, gT_rz, if_pos ⟨ha, c117 _ (sgn_lt k)⟩, if_pos ha, if_pos ha, rz_wa (by omega), gR_rz, rz_wR]
  · have cg : ∀ {l u : Nat}, (a < l ∨ u ≤ a) → ∀ b, l ≤ b → b < u → gT (wR (wI h2 (up1 (gI h2) a 0 (Int32.ofNat (sgn k)))) (up1 (up1 (gR h2) a 1 t1) a 2 t2)) b = gT h2 b ∧ gI (wR (wI h2 (up1 (gI h2) a 0 (Int32.ofNat (sgn k)))) (up1 (up1 (gR h2) a 1 t1) a 2 t2)) b = gI h2 b ∧ gR (wR (wI h2 (up1 (gI h2) a 0 (Int32.ofNat (sgn k)))) (up1 (up1 (gR h2) a 1 t1) a 2 t2)) b = gR h2 b := by
      intro l u hx b b1 b2
      refine ⟨rfl, up1_nc _ _ _ (by omega), ?_⟩
      show up1 (up1 (gR h2) a 1 t1) a 2 t2 b = _
      rw [up1_nc _ _ _ (by omega), up1_nc _ _ _ (by omega)]
    have r1 : gR (wR (wI h2 (up1 (gI h2) a 0 (Int32.ofNat (sgn k)))) (up1 (up1 (gR h2) a 1 t1) a 2 t2)) a 1 = t1 := by show up1 (up1 (gR h2) a 1 t1) a 2 t2 a 1 = t1; simp [up1]
    have r2 : gR (wR (wI h2 (up1 (gI h2) a 0 (Int32.ofNat (sgn k)))) (up1 (up1 (gR h2) a 1 t1) a 2 t2)) a 2 = t2 := by show up1 (up1 (gR h2) a 1 t1) a 2 t2 a 2 = t2; simp [up1]
    refine ⟨⟨ha1, ha2⟩, Or.inr (Or.inr ⟨ha, k, V1, V2, hk, ?_, ?_, ?_, rfl⟩)⟩
    · show up1 (gI h2) a 0 _ a 0 = _
      simp [up1]
    · rw [r1]; exact TW_cg x1 x2 (cg x3) n n _ _ (Nat.le_refl _) w1
    · rw [r2]; exact TW_cg y1 y2 (cg y3) n n _ _ (Nat.le_refl _) w2
theorem TW.ke {h h' : gd_H} {lo hi c n m t : Nat} {V : gdV} (w : TW h lo hi n t V) (k : Ke c h h') (hh : hi ≤ gS h) (hm : n ≤ m) : TW h' lo hi m t V :=
  TW_cg (Nat.le_refl _) (Nat.le_refl _) (fun b h1 h2 => by
    obtain ⟨x1, x2, x3, x4⟩ := k.2 b (by omega)
    exact ⟨x1, x3, x4⟩) n m t V hm w
/-- what stands behind a sign: the other one is read, two are made -/
theorem lpk2 {X : gdX} {o dm m k pcC pcR pcN pcH mn : Nat} {sg : Int32} {nx : Nat → gdQ gdK} {d : Nat} {h0 h1 : gd_H} {ρ lm ω p0 p1 q t1 : Nat} {a1 : gdK} {cont : Nat → gdK → gdQ gdK}
    (hn : LVs X o nx mn dm) (hg : ∀ p, p ≤ xn X → QG X p (KG p) (nx p)) (hm : gd_hd m = []) (hk : 2 ≤ k ∧ k ≤ 8) (hs : sg = Int32.ofNat (sgn k)) (hd : dm ≤ d) (hd1 : 1 ≤ d) (hb : RB h0 ρ X) (hS : SK h0) (hl : LB h0 lm ρ ω) (h01 : p0 < p1) (h1q : p1 ≤ q) (hq : q + 1 ≤ xn X) (kc : Ke (p1 - p0) h0 h1) (w1 : TW h1 (gS h0) (gS h1) (p1 - p0) t1 a1.2)
    (e1 : ∀ (z0 z1 z3 z4 : Nat) (h : gd_H), go gd_P0 d m pcR [.ref lm, .ref t1] [.ref z0, .ref z1, .int sg, .ref z3, .ref z4] h = if gT h z3 = 13 then gc gd_P0 d m pcR pcN [.ref lm, .null] [.ref z4] (run gd_P0 d 117 [.ref z3, .int sg, .ref z1, .ref z0] h) else none)
    (e2 : ∀ (z : Nat) (h : gd_H), go gd_P0 d m pcN [.ref lm, .null] [.ref z] h = go gd_P0 d m pcH [.ref lm, .ref z] [] h)
    (ih : ∀ (h2 : gd_H) (p2 t2 : Nat) (a2 : gdK), p0 < p2 → q + 1 < p2 → p2 ≤ xn X → Ke (p2 - p0) h0 h2 → TW h2 (gS h0) (gS h2) (p2 - p0) t2 a2.2 → LO ρ h0 o p0 (cont p2 a2) (go gd_P0 d m pcH [.ref lm, .ref t2] [] (rz h2 ρ p2 o))) :
    LO ρ h0 o p0 (qb (nx (q + 1)) fun p' b => cont p' (kBin k a1 b)) (gc gd_P0 d m pcC pcR [.ref lm, .ref t1] [.ref t1, .int sg, .ref (gS h1), .ref (gS h1)] (run gd_P0 d mn [.ref lm] (rz (nw h1 13 0 3) ρ (q + 1) o))) := by
  have hX : XO X := hb.2.2.2.2
  have hn6 : xn X ≤ 600 := hX.1
  have hρ := hb.2.2.2.1
  have kn := Ke.nw h1 13 0 3 (by omega)
  have k2 : Ke (p1 - p0 + 1) h0 (nw h1 13 0 3) := kc.trans kn (Nat.le_refl _)
  have r := hn d (nw h1 13 0 3) ρ lm ω (q + 1) hd (hb.ke k2) (hS.ke k2 (by omega)) (hl.ke k2) hq
  have g := hg (q + 1) hq
  revert r g
  rcases nx (q + 1) with ⟨kk, pl⟩ | ⟨p', b⟩
  · intro r g
    show WE ρ (700 - p0) h0 kk pl _
    exact (WE.ke r k2 (by omega) (by omega)).gc hm
  · rintro ⟨h2, t2, e, k3, w2⟩ ⟨g1, g2, -⟩
    rw [gS_nw] at w2
    have k4 : Ke (p' - p0) h0 h2 := k2.trans k3 (by omega)
    have kn2 : Ke (p' - q) h1 h2 := kn.trans k3 (by omega)
    have ta : gT h2 (gS h1) = 13 := by rw [(k3.2 (gS h1) (by rw [gS_nw]; omega)).1, gT_nw, if_pos rfl]
    have k3s := k3.1.1
    rw [gS_nw] at k3s
    have kcs := kc.1.1
    obtain ⟨h3, e3, k5, s5, w5⟩ := mk2 hb k4 ta (by omega) (by omega) hk (w1.ke kn2 (Nat.le_refl _) (m := p' - p0 - 1) (by omega)) (Nat.le_refl _) (by omega) (Or.inr (Nat.le_refl _)) (TW_cg (Nat.le_refl _) (Nat.le_refl _) (fun _ _ _ => ⟨rfl, rfl, rfl⟩) _ (p' - p0 - 1) _ _ (by omega) w2) (by omega) (Nat.le_refl _) (Or.inl (by omega)) p' o hd1 hs
    have := ih h3 p' (gS h1) (kBin k a1 b) (by omega) g1 g2 k5 (by rw [show p' - p0 - 1 + 1 = p' - p0 by omega] at w5; exact w5)
    show LO ρ h0 o p0 (cont p' (kBin k a1 b)) _
    rw [e, gc_v, e1, gT_rz, if_pos ta, e3, gc_n, e2]
    exact this
/-- a product's loop -/
theorem lpP {X : gdX} {o dm : Nat} {u : Nat → gdQ gdK} (hu : LVs X o u 116 dm) (hg : ∀ p, p ≤ xn X → QG X p (KG p) (u p)) {d : Nat} (hd : dm ≤ d) (hd1 : 3 ≤ d) {h0 : gd_H} {ρ lm ω p0 : Nat} (hb : RB h0 ρ X) (hS : SK h0) (hl : LB h0 lm ρ ω) : ∀ (f p1 t1 : Nat) (h1 : gd_H) (a1 : gdK), xn X < f + p1 → p0 < p1 → p1 ≤ xn X → Ke (p1 - p0) h0 h1 → TW h1 (gS h0) (gS h1) (p1 - p0) t1 a1.2 → LO ρ h0 o p0 (lLp X sgP u f p1 a1) (go gd_P0 d 115 5 [.ref lm, .ref t1] [] (rz h1 ρ p1 o))
  | 0, p1, t1, h1, a1, x0, x1, x2, x3, x4 => absurd x0 (by omega)
  | f + 1, p1, t1, h1, a1, x0, x1, x2, x3, x4 => by
    have hb1 := hb.ke x3
    have hl1 := hl.ke x3
    have g1 := sk_ge X p1
    have g2 := sk_le x2
    have t1l : gT h1 lm = 12 := hl1.1.1
    have r1l : gR h1 lm 1 = ρ := hl1.1.2.1
    have t1r : gT h1 ρ = 10 := hb1.1.1
    have hρ := hb1.2.2.2.1
    rw [s115_5, gT_rz, if_pos t1l, gR_rz, r1l, if_pos t1r, show (42 : Int32) = Int32.ofNat 42 from rfl, sp109 hb1 (by omega) x2 o (by omega), gc_v, s115_14, lLp]
    by_cases c42 : ch X (sk X p1) = 42
    · rw [if_pos c42, if_pos c42, if_neg (show ¬ (1 : Int32) = 0 by decide), c42, if_neg (by decide), s115_20]
      have hq := ch_lt (X := X) (q := sk X p1) (by omega)
      have tn : gT (nw (rz h1 ρ (sk X p1 + 1) o) 13 0 3) lm = 12 := (((Ke.nw h1 13 0 3 (by omega)).2 lm hl1.2.2.1).1.trans t1l)
      rw [if_pos tn, nw_rz h1 _ _ _ _ _ hρ.2, gS_rz]
      exact lpk2 (k := 4) hu hg rfl (by decide) rfl hd (by omega) hb hS hl x1 g1 hq x3 x4 (fun z0 z1 z3 z4 h => s115_28 ..) (fun z h => s115_31 ..) (fun h2 p2 t2 a2 y1 y2 y3 y4 y5 => lpP hu hg hd hd1 hb hS hl f p2 t2 h2 a2 (by omega) y1 y3 y4 y5)
    · rw [if_neg c42, if_neg c42, if_pos rfl, gT_rz, if_pos t1l, gR_rz, r1l, if_pos t1r, show (47 : Int32) = Int32.ofNat 47 from rfl, sp109 hb1 (by omega) g2 o (by omega), gc_v, s115_44, sk_sk x2]
      by_cases c47 : ch X (sk X p1) = 47
      · rw [if_pos c47, if_pos c47, if_neg (show ¬ (1 : Int32) = 0 by decide), c47, if_neg (by decide), s115_50]
        have hq := ch_lt (X := X) (q := sk X p1) (by omega)
        have tn : gT (nw (rz h1 ρ (sk X p1 + 1) o) 13 0 3) lm = 12 := (((Ke.nw h1 13 0 3 (by omega)).2 lm hl1.2.2.1).1.trans t1l)
        rw [if_pos tn, nw_rz h1 _ _ _ _ _ hρ.2, gS_rz]
        exact lpk2 (k := 5) hu hg rfl (by decide) rfl hd (by omega) hb hS hl x1 g1 hq x3 x4 (fun z0 z1 z3 z4 h => s115_58 ..) (fun z h => s115_61 ..) (fun h2 p2 t2 a2 y1 y2 y3 y4 y5 => lpP hu hg hd hd1 hb hS hl f p2 t2 h2 a2 (by omega) y1 y3 y4 y5)
      · rw [if_neg c47, if_neg c47, if_pos rfl, gT_rz, if_pos t1l, gR_rz, r1l, if_pos t1r, show (37 : Int32) = Int32.ofNat 37 from rfl, sp109 hb1 (by omega) g2 o (by omega), gc_v, s115_74, sk_sk x2]
        by_cases c37 : ch X (sk X p1) = 37
        · rw [if_pos c37, if_pos c37, if_neg (show ¬ (1 : Int32) = 0 by decide), c37, if_neg (by decide), s115_80]
          have hq := ch_lt (X := X) (q := sk X p1) (by omega)
          have tn : gT (nw (rz h1 ρ (sk X p1 + 1) o) 13 0 3) lm = 12 := (((Ke.nw h1 13 0 3 (by omega)).2 lm hl1.2.2.1).1.trans t1l)
          rw [if_pos tn, nw_rz h1 _ _ _ _ _ hρ.2, gS_rz]
          exact lpk2 (k := 8) hu hg rfl (by decide) rfl hd (by omega) hb hS hl x1 g1 hq x3 x4 (fun z0 z1 z3 z4 h => s115_88 ..) (fun z h => s115_91 ..) (fun h2 p2 t2 a2 y1 y2 y3 y4 y5 => lpP hu hg hd hd1 hb hS hl f p2 t2 h2 a2 (by omega) y1 y3 y4 y5)
        · have z : sgP (ch X (sk X p1)) = 0 := by unfold sgP; rw [if_neg c42, if_neg c47, if_neg c37]
          rw [if_neg c37, if_neg c37, if_pos rfl, if_pos z]
          exact ⟨h1, t1, rfl, x3.up (by omega), TW_cg (Nat.le_refl _) (Nat.le_refl _) (fun _ _ _ => ⟨rfl, rfl, rfl⟩) _ _ _ _ (by omega) x4⟩
theorem spP {X : gdX} {o dm : Nat} {u : Nat → gdQ gdK} (hdm : 3 ≤ dm) (hu : LVs X o u 116 dm) (hg : ∀ p, p ≤ xn X → QG X p (KG p) (u p)) : LVs X o (lPr X u) 115 (dm + 1) := by
  intro d h ρ lm ω p hd hb hS hl hp
  obtain ⟨d, rfl⟩ : ∃ e, d = e + 1 := ⟨d - 1, by omega⟩
  have r := hu d h ρ lm ω p (by omega) hb hS hl hp
  have g := hg p hp
  rw [r115, s115_0, gT_rz, if_pos hl.1.1]
  unfold lPr
  revert r g
  rcases u p with ⟨kk, pl⟩ | ⟨p', b⟩
  · intro r g
    exact WE.gc r rfl
  · rintro ⟨h2, t2, e, k3, w2⟩ ⟨g1, g2, -⟩
    rw [e, gc_v, s115_4, qb_r]
    exact lpP hu hg (by omega) (by omega) hb hS hl _ p' t2 h2 b (by omega) g1 g2 k3 w2
theorem lpS {X : gdX} {o dm : Nat} {u : Nat → gdQ gdK} (hu : LVs X o u 115 dm) (hg : ∀ p, p ≤ xn X → QG X p (KG p) (u p)) {d : Nat} (hd : dm ≤ d) (hd1 : 3 ≤ d) {h0 : gd_H} {ρ lm ω p0 : Nat} (hb : RB h0 ρ X) (hS : SK h0) (hl : LB h0 lm ρ ω) : ∀ (f p1 t1 : Nat) (h1 : gd_H) (a1 : gdK), xn X < f + p1 → p0 < p1 → p1 ≤ xn X → Ke (p1 - p0) h0 h1 → TW h1 (gS h0) (gS h1) (p1 - p0) t1 a1.2 → LO ρ h0 o p0 (lLp X sgS u f p1 a1) (go gd_P0 d 114 5 [.ref lm, .ref t1] [] (rz h1 ρ p1 o))
  | 0, p1, t1, h1, a1, x0, x1, x2, x3, x4 => absurd x0 (by omega)
  | f + 1, p1, t1, h1, a1, x0, x1, x2, x3, x4 => by
    have hb1 := hb.ke x3
    have hl1 := hl.ke x3
    have g1 := sk_ge X p1
    have g2 := sk_le x2
    have t1l : gT h1 lm = 12 := hl1.1.1
    have r1l : gR h1 lm 1 = ρ := hl1.1.2.1
    have t1r : gT h1 ρ = 10 := hb1.1.1
    have hρ := hb1.2.2.2.1
    rw [s114_5, gT_rz, if_pos t1l, gR_rz, r1l, if_pos t1r, show (43 : Int32) = Int32.ofNat 43 from rfl, sp109 hb1 (by omega) x2 o (by omega), gc_v, s114_14, lLp]
    by_cases c42 : ch X (sk X p1) = 43
    · have hq := ch_lt (X := X) (q := sk X p1) (by omega)
      have tn : gT (nw (rz h1 ρ (sk X p1 + 1) o) 13 0 3) lm = 12 := (((Ke.nw h1 13 0 3 (by omega)).2 lm hl1.2.2.1).1.trans t1l)
      rw [if_pos c42, if_pos c42, if_neg (show ¬ (1 : Int32) = 0 by decide), c42, if_neg (by decide), if_pos tn, nw_rz h1 _ _ _ _ _ hρ.2, gS_rz]
      exact lpk2 (k := 2) hu hg rfl (by decide) rfl hd (by omega) hb hS hl x1 g1 hq x3 x4 (fun z0 z1 z3 z4 h => s114_28 ..) (fun z h => s114_31 ..) (fun h2 p2 t2 a2 y1 y2 y3 y4 y5 => lpS hu hg hd hd1 hb hS hl f p2 t2 h2 a2 (by omega) y1 y3 y4 y5)
    · rw [if_neg c42, if_neg c42, if_pos rfl, gT_rz, if_pos t1l, gR_rz, r1l, if_pos t1r, show (45 : Int32) = Int32.ofNat 45 from rfl, sp109 hb1 (by omega) g2 o (by omega), gc_v, s114_44, sk_sk x2]
      by_cases c47 : ch X (sk X p1) = 45
      · have hq := ch_lt (X := X) (q := sk X p1) (by omega)
        have tn : gT (nw (rz h1 ρ (sk X p1 + 1) o) 13 0 3) lm = 12 := (((Ke.nw h1 13 0 3 (by omega)).2 lm hl1.2.2.1).1.trans t1l)
        rw [if_pos c47, if_pos c47, if_neg (show ¬ (1 : Int32) = 0 by decide), c47, if_neg (by decide), if_pos tn, nw_rz h1 _ _ _ _ _ hρ.2, gS_rz]
        exact lpk2 (k := 3) hu hg rfl (by decide) rfl hd (by omega) hb hS hl x1 g1 hq x3 x4 (fun z0 z1 z3 z4 h => s114_58 ..) (fun z h => s114_61 ..) (fun h2 p2 t2 a2 y1 y2 y3 y4 y5 => lpS hu hg hd hd1 hb hS hl f p2 t2 h2 a2 (by omega) y1 y3 y4 y5)
      · have z : sgS (ch X (sk X p1)) = 0 := by unfold sgS; rw [if_neg c42, if_neg c47]
        rw [if_neg c47, if_neg c47, if_pos rfl, if_pos z]
        exact ⟨h1, t1, rfl, x3.up (by omega), TW_cg (Nat.le_refl _) (Nat.le_refl _) (fun _ _ _ => ⟨rfl, rfl, rfl⟩) _ _ _ _ (by omega) x4⟩
theorem spS {X : gdX} {o dm : Nat} {u : Nat → gdQ gdK} (hdm : 3 ≤ dm) (hu : LVs X o u 115 dm) (hg : ∀ p, p ≤ xn X → QG X p (KG p) (u p)) : LVs X o (fun p => qb (u p) fun p' a => lLp X sgS u (xn X + 1) p' a) 114 (dm + 1) := by
  intro d h ρ lm ω p hd hb hS hl hp
  obtain ⟨d, rfl⟩ : ∃ e, d = e + 1 := ⟨d - 1, by omega⟩
  have r := hu d h ρ lm ω p (by omega) hb hS hl hp
  have g := hg p hp
  rw [r114, s114_0, gT_rz, if_pos hl.1.1]
  show LO ρ h o p (qb (u p) fun p' a => lLp X sgS u (xn X + 1) p' a) _
  revert r g
  rcases u p with ⟨kk, pl⟩ | ⟨p', b⟩
  · intro r g
    exact WE.gc r rfl
  · rintro ⟨h2, t2, e, k3, w2⟩ ⟨g1, g2, -⟩
    rw [e, gc_v, s114_4, qb_r]
    exact lpS hu hg (by omega) (by omega) hb hS hl _ p' t2 h2 b (by omega) g1 g2 k3 w2
theorem tN_sk {X : gdX} {p : Nat} (hp : p ≤ xn X) (l hs : Nat) : tN X l hs (sk X p) = tN X l hs p := by unfold tN; rw [sk_sk hp]
theorem tS_at {X : gdX} {c q : Nat} (hq : sk X q = q) (h : ch X q = c) : tS X c q = .inr (q + 1, ()) := by unfold tS; rw [hq, if_pos h]
/-- a figure, a fact, are made -/
theorem mk1 {h h2 : gd_H} {ρ c a v m t : Nat} {X : gdX} (hm : (m = 119 ∧ t = 14) ∨ (m = 121 ∧ t = 15)) (hb : RB h ρ X) (kc : Ke c h h2) (ha : gT h2 a = t) (ha1 : gS h ≤ a) (p o : Nat) {d : Nat} (hd : 1 ≤ d) :
    ∃ h3, run gd_P0 d m [.ref a, .int (Int32.ofNat v)] (rz h2 ρ p o) = some (.inl none, rz h3 ρ p o) ∧ Ke c h h3 ∧ gS h3 = gS h2 ∧ gT h3 a = t ∧ gI h3 a 0 = Int32.ofNat v := by
  obtain ⟨d, rfl⟩ : ∃ e, d = e + 1 := ⟨d - 1, by omega⟩
  have hρ := hb.2.2.2.1
  refine ⟨wI h2 (up1 (gI h2) a 0 (Int32.ofNat v)), ?_, kc.w _ (gR h2) (fun b hb => up1_nc _ _ _ (by omega)) (fun _ _ => rfl), rfl, ha, by show up1 (gI h2) a 0 _ a 0 = _; simp [up1]⟩
  rcases hm with ⟨rfl, rfl⟩ | ⟨rfl, rfl⟩
  · rw [r119, s119_0, if_pos (by omega), s119_4, gT_rz, if_pos ha, rz_wa (by omega)]
  · rw [r121, s121_0, if_pos (by omega), s121_4, gT_rz, if_pos ha, rz_wa (by omega)]
theorem spV {X : gdX} {o dm : Nat} {big : Bool} {S : Nat → gdQ gdK} (hdm : 6 ≤ dm) (ho : big = false → o = 6) (hS1 : big = true → o < 6 ∧ LVs X (o + 1) S 114 dm ∧ ∀ p, p ≤ xn X → QG X p (KG p) (S p)) : LVs X o (lUb X big S) 116 (dm + 1) := by
  intro d h ρ lm ω p hd hb hS hl hp
  obtain ⟨d, rfl⟩ : ∃ e, d = e + 1 := ⟨d - 1, by omega⟩
  have hX : XO X := hb.2.2.2.2
  have hn6 : xn X ≤ 600 := hX.1
  have hρ := hb.2.2.2.1
  have g1 := sk_ge X p
  have g2 := sk_le hp
  have tl : gT h lm = 12 := hl.1.1
  have rl : gR h lm 1 = ρ := hl.1.2.1
  have tr : gT h ρ = 10 := hb.1.1
  have gl := ltr_len X (sk X p)
  have gw := we_le g2
  have sq := sk_sk hp
  have ew1 := sp101 hb hS (d := d) (by omega) hp o (j := 12) (by omega)
  have ew2 := sp101 hb hS (d := d) (by omega) g2 o (j := 13) (by omega)
  rw [sq] at ew2
  have ew1 : run gd_P0 d 101 [.ref ρ, .ref 32] (rz h ρ p o) = some (.inl (some (.int (if ltr X (sk X p) = wLe then 1 else 0))), rz h ρ (sk X p) o) := ew1
  have ew2 : run gd_P0 d 101 [.ref ρ, .ref 34] (rz h ρ (sk X p) o) = some (.inl (some (.int (if ltr X (sk X p) = wMo then 1 else 0))), rz h ρ (sk X p) o) := ew2
  -- least, most
  have TW2 : ∀ (le : Prop) [Decidable le] (z : Int32), (z = if le then 1 else 0) → (ltr X (sk X p) ≠ []) → LO ρ h o p (if big = true then qb (tS X 91 (sk X p + (ltr X (sk X p)).length)) fun p1 _ => qb (S p1) fun p2 a => qb (tS X 44 p2) fun p3 _ => qb (S p3) fun p4 b => qb (tS X 93 p4) fun p5 _ => .inr (p5, kBin (if le then 6 else 7) a b) else .inl (3, sk X p)) (go gd_P0 d 116 26 [.ref lm, .int z, .null, .null] [] (rz h ρ (sk X p) o)) := by
    intro le il z hz hne
    have hne2 := ltr_ne hne
    rw [s116_26, gT_rz, if_pos tl, gR_rz, rl, if_pos tr]
    cases big with
    | false =>
      rw [if_neg (by decide)]
      have := sp107n hb (d := d) (by omega) g2
      rw [ho rfl]
      rw [sq] at this
      exact WE.gc (this.up (by omega)) rfl
    | true =>
      obtain ⟨o6, hS1, hg⟩ := hS1 rfl
      rw [if_pos rfl, sp107 hb (by omega) g2 o6, gc_n, s116_33, gT_rz, if_pos tl, gR_rz, rl, if_pos tr, sp103 hb (by omega) g2, gc_n, s116_40, gT_rz, if_pos tl, gR_rz, rl, if_pos tr, gl]
      have ga := we_ge X (sk X p)
      have r1 := sp106 hb (d := d) (by omega) gw (o + 1) (c := 91) (by omega)
      have q1 := tS_g (X := X) (c := 91) (by decide) gw
      revert r1 q1
      rcases tS X 91 (we X (sk X p)) with ⟨kk, pl⟩ | ⟨p1, ⟨⟩⟩
      · intro r1 _
        exact WE.gc (WE.up r1 (by omega)) rfl
      intro r1 q1
      obtain ⟨a1, a2, -⟩ := q1
      have r1 : run gd_P0 d 106 [.ref ρ, .int 91] (rz h ρ (we X (sk X p)) (o + 1)) = _ := r1
      rw [r1, gc_n, s116_49, gT_rz, if_pos tl, qb_r]
      have r2 := hS1 d h ρ lm ω p1 (by omega) hb hS hl a2
      have q2 := hg p1 a2
      revert r2 q2
      rcases S p1 with ⟨kk, pl⟩ | ⟨p2, a⟩
      · intro r2 _
        exact WE.gc (WE.up r2 (by omega)) rfl
      rintro ⟨h2, t2, e2, k2, w2⟩ ⟨b1, b2, -⟩
      have hb2 := hb.ke k2
      have hS2 := hS.ke k2 (by omega)
      have hl2 := hl.ke k2
      rw [e2, gc_v, s116_53, gT_rz, if_pos hl2.1.1, gR_rz, hl2.1.2.1, if_pos hb2.1.1, qb_r]
      have r3 := sp106 hb2 (d := d) (by omega) b2 (o + 1) (c := 44) (by omega)
      have q3 := tS_g (X := X) (c := 44) (by decide) b2
      revert r3 q3
      rcases tS X 44 p2 with ⟨kk, pl⟩ | ⟨p3, ⟨⟩⟩
      · intro r3 _
        exact WE.gc (WE.ke r3 k2 (by omega) (by omega)) rfl
      intro r3 q3
      obtain ⟨c1, c2, -⟩ := q3
      have r3 : run gd_P0 d 106 [.ref ρ, .int 44] (rz h2 ρ p2 (o + 1)) = _ := r3
      rw [r3, gc_n, s116_63, gT_rz, if_pos hl2.1.1, qb_r]
      have r4 := hS1 d h2 ρ lm ω p3 (by omega) hb2 hS2 hl2 c2
      have q4 := hg p3 c2
      revert r4 q4
      rcases S p3 with ⟨kk, pl⟩ | ⟨p4, b⟩
      · intro r4 _
        exact WE.gc (WE.ke r4 k2 (by omega) (by omega)) rfl
      rintro ⟨h4, t4, e4, k4, w4⟩ ⟨d1, d2, -⟩
      have k24 : Ke ((p2 - p1) + (p4 - p3)) h h4 := k2.trans k4 (Nat.le_refl _)
      have hb4 := hb.ke k24
      have hl4 := hl.ke k24
      rw [e4, gc_v, s116_67, gT_rz, if_pos hl4.1.1, gR_rz, hl4.1.2.1, if_pos hb4.1.1, qb_r]
      have r5 := sp106 hb4 (d := d) (by omega) d2 (o + 1) (c := 93) (by omega)
      have q5 := tS_g (X := X) (c := 93) (by decide) d2
      revert r5 q5
      rcases tS X 93 p4 with ⟨kk, pl⟩ | ⟨p5, ⟨⟩⟩
      · intro r5 _
        exact WE.gc (WE.ke r5 k24 (by omega) (by omega)) rfl
      intro r5 q5
      obtain ⟨f1, f2, -⟩ := q5
      have r5 : run gd_P0 d 106 [.ref ρ, .int 93] (rz h4 ρ p4 (o + 1)) = _ := r5
      rw [r5, gc_n, s116_77, gT_rz, if_pos hl4.1.1, gR_rz, hl4.1.2.1, if_pos hb4.1.1, sp108 hb4 (by omega), gc_n, s116_84, nw_rz h4 _ _ _ _ _ hb4.2.2.2.1.2, gS_rz, s116_87, qb_r]
      have kn := Ke.nw h4 13 0 3 (by omega)
      have k5 : Ke (p5 - p) h (nw h4 13 0 3) := k24.trans kn (by omega)
      have ta : gT (nw h4 13 0 3) (gS h4) = 13 := by rw [gT_nw, if_pos rfl]
      have k2s := k2.1.1
      have k4s := k4.1.1
      have hk : 2 ≤ (if le then 6 else 7) ∧ (if le then 6 else 7) ≤ 8 := by split <;> decide
      have fin : ∀ sg : Int32, sg = Int32.ofNat (sgn (if le then 6 else 7)) → LO ρ h o p (.inr (p5, kBin (if le then 6 else 7) a b)) (go gd_P0 d 116 99 [.null, .int z, .ref t2, .ref t4] [.int sg, .ref (gS h4), .ref (gS h4)] (rz (nw h4 13 0 3) ρ p5 o)) := by
        intro sg hsg
        obtain ⟨h5, e5, k6, s6, w6⟩ := mk2 hb k5 ta (by omega) (by rw [gS_nw]; omega) hk (w2.ke (k4.trans kn (Nat.le_refl _)) (Nat.le_refl _) (m := p5 - p - 1) (by omega)) (Nat.le_refl _) (by rw [gS_nw]; omega) (Or.inr (by omega)) (w4.ke kn (Nat.le_refl _) (m := p5 - p - 1) (by omega)) (by omega) (by rw [gS_nw]; omega) (Or.inr (Nat.le_refl _)) p5 o (d := d) (by omega) hsg
        rw [s116_99, gT_rz, if_pos ta, e5, gc_n, s116_104]
        rw [show p5 - p - 1 + 1 = p5 - p by omega] at w6
        exact ⟨h5, _, rfl, k6, w6⟩
      by_cases cl : le
      · have := fin 91 (by rw [if_pos cl]; rfl)
        rw [hz, if_pos cl, if_pos cl] at this
        rw [hz, if_pos cl, if_pos cl, if_neg (show ¬ (1 : Int32) = 0 by decide)]
        exact this
      · have := fin 93 (by rw [if_neg cl]; rfl)
        rw [hz, if_neg cl, if_neg cl] at this
        rw [hz, if_neg cl, if_neg cl, if_pos rfl]
        exact this
  rw [r116, s116_0, gT_rz, if_pos tl, gR_rz, rl, if_pos tr, ew1, gc_v, s116_9]
  unfold lUb
  by_cases cL : ltr X (sk X p) = wLe
  · rw [if_pos (Or.inl cL), if_pos cL, if_pos cL, if_neg (show ¬ (1 : Int32) = 0 by decide)]
    have := TW2 (ltr X (sk X p) = wLe) 1 (by rw [if_pos cL]) (by rw [cL]; decide)
    rw [if_pos cL] at this
    exact this
  rw [if_neg cL, if_neg cL, if_pos rfl, gT_rz, if_pos tl, gR_rz, rl, if_pos tr, ew2, gc_v, s116_23]
  by_cases cM : ltr X (sk X p) = wMo
  · rw [if_pos (Or.inr cM), if_pos cM, if_neg (show ¬ (1 : Int32) = 0 by decide)]
    have := TW2 (ltr X (sk X p) = wLe) 0 (by rw [if_neg cL]) (by rw [cM]; decide)
    rw [if_neg cL] at this
    exact this
  rw [if_neg (fun y => y.elim cL cM), if_neg cM, if_pos rfl, gT_rz, if_pos tl, gR_rz, rl, if_pos tr, sp97 hb (by omega) g2, sq, gc_v, s116_112]
  simp only [show (40 : Int32) = Int32.ofNat 40 from rfl, xv_eq hX (sk X p) (show 40 < 256 by omega)]
  by_cases c40 : ch X (sk X p) = 40
  · rw [if_pos c40, if_pos c40, gT_rz, if_pos tl, gR_rz, rl, if_pos tr]
    have hq := ch_lt (X := X) (q := sk X p) (by omega)
    cases big with
    | false =>
      rw [if_neg (by decide)]
      have := sp107n hb (d := d) (by omega) g2
      rw [ho rfl]
      rw [sq] at this
      exact WE.gc (this.up (by omega)) rfl
    | true =>
      obtain ⟨o6, hS1, hg⟩ := hS1 rfl
      have r0 := sp106 hb (d := d) (by omega) g2 (o + 1) (c := 40) (by omega)
      rw [tS_at sq c40] at r0
      have r0 : run gd_P0 d 106 [.ref ρ, .int (Int32.ofNat 40)] (rz h ρ (sk X p) (o + 1)) = _ := r0
      rw [if_pos rfl, sp107 hb (by omega) g2 o6, gc_n, s116_124, gT_rz, if_pos tl, gR_rz, rl, if_pos tr, show (40 : Int32) = Int32.ofNat 40 from rfl, r0, gc_n, s116_133, gT_rz, if_pos tl]
      have r2 := hS1 d h ρ lm ω (sk X p + 1) (by omega) hb hS hl (by omega)
      have q2 := hg (sk X p + 1) (by omega)
      revert r2 q2
      rcases S (sk X p + 1) with ⟨kk, pl⟩ | ⟨p2, a⟩
      · intro r2 _
        exact WE.gc (WE.up r2 (by omega)) rfl
      rintro ⟨h2, t2, e2, k2, w2⟩ ⟨b1, b2, -⟩
      have hb2 := hb.ke k2
      have hl2 := hl.ke k2
      rw [e2, gc_v, s116_137, gT_rz, if_pos hl2.1.1, gR_rz, hl2.1.2.1, if_pos hb2.1.1, qb_r]
      have r3 := sp106 hb2 (d := d) (by omega) b2 (o + 1) (c := 41) (by omega)
      have q3 := tS_g (X := X) (c := 41) (by decide) b2
      revert r3 q3
      rcases tS X 41 p2 with ⟨kk, pl⟩ | ⟨p3, ⟨⟩⟩
      · intro r3 _
        exact WE.gc (WE.ke r3 k2 (by omega) (by omega)) rfl
      intro r3 q3
      obtain ⟨c1, c2, -⟩ := q3
      have r3 : run gd_P0 d 106 [.ref ρ, .int 41] (rz h2 ρ p2 (o + 1)) = _ := r3
      rw [r3, gc_n, s116_147, gT_rz, if_pos hl2.1.1, gR_rz, hl2.1.2.1, if_pos hb2.1.1, sp108 hb2 (by omega), gc_n, s116_154]
      exact ⟨h2, t2, rfl, k2.up (by omega), TW_cg (Nat.le_refl _) (Nat.le_refl _) (fun _ _ _ => ⟨rfl, rfl, rfl⟩) _ _ _ _ (by omega) w2⟩
  rw [if_neg c40, if_neg c40, gT_rz, if_pos tl, if_pos tl, gR_rz, rl, if_pos tr, hl.1.2.2]
  have e100 := sp100 hb hS hl.2.2.2.2 hl.2.1.1 (b := 4) (ws := wFa) hl.2.1.2.1 (by decide) (by decide) (by decide) (fun i hi => ⟨hl.2.1.2.2 i hi, by
    have : ∀ i, i < 8 → wds.getD (4 + i) [] = wFa.getD i [] := by decide +kernel
    exact this i hi⟩) (d := d) (by omega) g2 o
  rw [sq] at e100
  have e100 : run gd_P0 d 100 [.ref ρ, .ref ω] (rz h ρ (sk X p) o) = some (.inl (some (.int (if wix (ltr X (sk X p)) wFa < 8 then Int32.ofNat (wix (ltr X (sk X p)) wFa) else -1))), rz h ρ (sk X p) o) := e100
  rw [e100, gc_v, s116_167]
  by_cases c8 : wix (ltr X (sk X p)) wFa < 8
  · have hne : ltr X (sk X p) ≠ [] := fun e => by rw [e] at c8; exact absurd c8 (by decide)
    have hne2 := ltr_ne hne
    rw [if_pos c8, if_pos c8, if_neg (by rw [j_m1 (by omega)]; exact fun z => z), gT_rz, if_pos tl, gR_rz, rl, if_pos tr, sp103 hb (by omega) g2, gc_n, s116_199, nw_rz h _ _ _ _ _ hρ.2, gS_rz, s116_202]
    have kn := Ke.nw h 15 0 1 (by omega)
    have ta : gT (nw h 15 0 1) (gS h) = 15 := by rw [gT_nw, if_pos rfl]
    obtain ⟨h3, e3, k3, s3, t3, i3⟩ := mk1 (v := wix (ltr X (sk X p)) wFa) (Or.inr ⟨rfl, rfl⟩) hb kn ta (Nat.le_refl _) (we X (sk X p)) o (d := d) (by omega)
    rw [gT_rz, if_pos ta, e3, gc_n, s116_207, gl]
    refine ⟨h3, _, rfl, k3.up (by omega), ?_⟩
    obtain ⟨n, e⟩ : ∃ n, we X (sk X p) - p = n + 1 := ⟨we X (sk X p) - p - 1, by omega⟩
    rw [e]
    exact ⟨⟨Nat.le_refl _, by rw [s3, gS_nw]; omega⟩, Or.inr (Or.inl ⟨t3, _, c8, i3, rfl⟩)⟩
  · rw [if_neg c8, if_neg c8, if_pos rfl, nw_rz h _ _ _ _ _ hρ.2, gS_rz, s116_176]
    have kn := Ke.nw h 14 0 1 (by omega)
    have hb2 := hb.ke kn
    have hl2 := hl.ke kn
    have ta : gT (nw h 14 0 1) (gS h) = 14 := by rw [gT_nw, if_pos rfl]
    rw [gT_rz, if_pos hl2.1.1, gR_rz, hl2.1.2.1, if_pos hb2.1.1]
    have r := sp104 hb2 (d := d) (by omega) g2 o (l := 0) (hs := 1000) (by omega) (by omega) (hi := 999) (fun v hv => hi_lit (n := 999) (by omega) hv)
    have q := tN_g (X := X) (lo := 0) (hs := 1000) hp
    rw [tN_sk hp] at r
    revert r q
    rcases tN X 0 1000 p with ⟨kk, pl⟩ | ⟨p', v⟩
    · intro r _
      exact WE.gc (WE.ke r kn (by omega) (by omega)) rfl
    intro r q
    obtain ⟨q1, q2, q3, q4⟩ := q
    have r : run gd_P0 d 104 [.ref ρ, .int 0, .int 999] (rz (nw h 14 0 1) ρ (sk X p) o) = _ := r
    obtain ⟨h3, e3, k3, s3, t3, i3⟩ := mk1 (v := v) (Or.inl ⟨rfl, rfl⟩) hb kn ta (Nat.le_refl _) p' o (d := d) (by omega)
    rw [r, gc_v, s116_188, gT_rz, if_pos ta, e3, gc_n, s116_191]
    refine ⟨h3, _, rfl, k3.up (by omega), ?_⟩
    obtain ⟨n, e⟩ : ∃ n, p' - p = n + 1 := ⟨p' - p - 1, by omega⟩
    rw [e]
    exact ⟨⟨Nat.le_refl _, by rw [s3, gS_nw]; omega⟩, Or.inl ⟨t3, v, by omega, i3, rfl⟩⟩
/-- a value of so many that may open yet -/
theorem spU (X : gdX) : ∀ m, m ≤ 6 → LVs X (6 - m) (lUn X m) 116 (9 * m + 7)
  | 0, _ => by
    rw [lUn_0]
    exact spV (o := 6) (dm := 6) (by omega) (fun _ => rfl) (fun e => by cases e)
  | m + 1, hm => by
    rw [lUn_s]
    have ih := spU X m (by omega)
    have g := fun p hp => lUn_g (X := X) m (p := p) hp
    have i1 := spP (by omega) ih g
    have i2 := spS (by omega) i1 (fun p hp => lPr_g g hp)
    have e : 6 - (m + 1) + 1 = 6 - m := by omega
    have i3 : LVs X (6 - (m + 1) + 1) (lSu X (lUn X m)) 114 (9 * m + 7 + 1 + 1) := by rw [e]; exact i2
    intro d h ρ lm ω p hd hb hS hl hp
    exact spV (by omega) (fun e => by cases e) (fun _ => ⟨by omega, i3, fun p hp => lSu_g g hp⟩) d h ρ lm ω p (by omega) hb hS hl hp
/-- a sum -/
theorem spSu (X : gdX) : LVs X 0 (lSu X (lUn X 6)) 114 70 := by
  have ih := spU X 6 (by omega)
  have g := fun p hp => lUn_g (X := X) 6 (p := p) hp
  have i1 := spP (by omega) ih g
  have i2 := spS (by omega) i1 (fun p hp => lPr_g g hp)
  intro d h ρ lm ω p hd hb hS hl hp
  exact i2 d h ρ lm ω p (by omega) hb hS hl hp
/-- the law, whole -/
theorem sp113 (X : gdX) {d : Nat} (hd : 71 ≤ d) {h : gd_H} {ρ lm ω : Nat} (hb : RB h ρ X) (hS : SK h) (hl : LB h lm ρ ω) : LO ρ h 0 0 (lLaw X) (run gd_P0 d 113 [.ref lm] (rz h ρ 0 0)) := by
  obtain ⟨d, rfl⟩ : ∃ e, d = e + 1 := ⟨d - 1, by omega⟩
  have r := spSu X d h ρ lm ω 0 (by omega) hb hS hl (Nat.zero_le _)
  have q := lSu_g (X := X) (fun p hp => lUn_g 6 hp) (Nat.zero_le (xn X))
  rw [r113, s113_0, gT_rz, if_pos hl.1.1]
  unfold lLaw
  revert r q
  rcases lSu X (lUn X 6) 0 with ⟨kk, pl⟩ | ⟨p', a⟩
  · intro r _
    exact WE.gc r rfl
  rintro ⟨h2, t2, e2, k2, w2⟩ ⟨b1, b2, -⟩
  have hb2 := hb.ke k2
  have hl2 := hl.ke k2
  have hn6 : xn X ≤ 600 := hb.2.2.2.2.1
  have hρ := hb.2.2.2.1
  rw [e2, gc_v, s113_4, gT_rz, if_pos hl2.1.1, gR_rz, hl2.1.2.1, if_pos hb2.1.1, qb_r]
  have r3 := sp110 hb2 (d := d) (by omega) b2 0
  by_cases c : sk X p' < xn X
  · rw [if_pos c] at r3 ⊢
    exact WE.gc (WE.ke r3 k2 (by omega) (by omega)) rfl
  · rw [if_neg c] at r3 ⊢
    have r3 : run gd_P0 d 110 [.ref ρ] (rz h2 ρ p' 0) = _ := r3
    have g := sk_ge X p'
    rw [r3, gc_n, s113_12]
    exact ⟨h2, t2, rfl, k2.up (by omega), TW_cg (Nat.le_refl _) (Nat.le_refl _) (fun _ _ _ => ⟨rfl, rfl, rfl⟩) _ _ _ _ (by omega) w2⟩

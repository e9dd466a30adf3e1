/-! ===== WORK: the model reads a step, its walk ===== -/
set_option maxRecDepth 100000
theorem wkx_at {w : List Nat} : ∀ (l : List (List Nat)), wix w l < l.length → l.getD (wix w l) [] = w
  | [], h => absurd h (Nat.not_lt_zero _)
  | v :: vs, h => by
    rw [wix] at h ⊢
    by_cases c : w = v
    · rw [if_pos c, c]; rfl
    · rw [if_neg c] at h ⊢
      exact wkx_at vs (by rw [List.length_cons] at h; omega)
theorem wk_eq {w : List Nat} {k : Nat} (hk : k < 8) : (w = wWk.getD k []) = (wix w wWk = k) := propext ⟨fun e => by
  rw [e]
  exact (show ∀ k, k < 8 → wix (wWk.getD k []) wWk = k from by decide) k hk, fun e => by
  have := wkx_at (w := w) wWk (by rw [e]; exact hk)
  rw [e] at this
  exact this.symm⟩
theorem wk_A {X : gdX} {q j k : Nat} (hj : j < 40) (hk : k < 8) (hw : wds.getD j [] = wWk.getD k []) : (Int32.ofNat (wv (ltr X q)) = Int32.ofNat (wc (wds.getD j []))) = (wix (ltr X q) wWk = k) := by
  rw [wv_eq hj, hw, wk_eq hk]
theorem spM {X : gdX} {E : gdE} {o dm : Nat} {big : Bool} {S : Nat → gdQ gdY} (hdm : 6 ≤ dm) (h15 : xn X ≤ 150) (ho : big = false → o = 6) (hS1 : big = true → o < 6 ∧ MAs X E o S dm) : MYs X E o (wUb X E big S) (dm + 1) := by
  intro d h p c hd hb hS hE hc hp hcp
  obtain ⟨d, rfl⟩ : ∃ e, d = e + 1 := ⟨d - 1, by omega⟩
  have hX : XO X := hb.2.2.2
  have hm := hb.1
  have g1 := sk_ge X p
  have g2 := sk_le hp
  have sq := sk_sk hp
  have gl := ltr_len X (sk X p)
  have gw := we_le g2
  have c50 : c < 50 := by omega
  obtain ⟨⟨e20, e21⟩, eB6, eN7⟩ := id hE
  have w8 := wix_le (ltr X (sk X p)) wWk
  have l8 : wWk.length = 8 := rfl
  rw [l8] at w8
  have L : ∀ (j p' : Nat), j < 40 → run gd_P0 d 191 [.ref (8 + 2 * j)] (mm h p' o) = some (.inl (some (.int (Int32.ofNat (wc (wds.getD j []))))), mm h p' o) := fun j p' hj => m191 (hS.mm _ _) (by omega) hj
  have L70 : ∀ p', run gd_P0 d 191 [.ref 70] (mm h p' o) = some (.inl (some (.int (Int32.ofNat (wc (wds.getD 31 []))))), mm h p' o) := fun p' => L 31 p' (by omega)
  have W70 : (Int32.ofNat (wv (ltr X (sk X p))) = Int32.ofNat (wc (wds.getD 31 []))) = (wix (ltr X (sk X p)) wWk = 6) := wk_A (by omega) (by omega) (by decide)
  have L74 : ∀ p', run gd_P0 d 191 [.ref 74] (mm h p' o) = some (.inl (some (.int (Int32.ofNat (wc (wds.getD 33 []))))), mm h p' o) := fun p' => L 33 p' (by omega)
  have W74 : (Int32.ofNat (wv (ltr X (sk X p))) = Int32.ofNat (wc (wds.getD 33 []))) = (wix (ltr X (sk X p)) wWk = 0) := wk_A (by omega) (by omega) (by decide)
  have L76 : ∀ p', run gd_P0 d 191 [.ref 76] (mm h p' o) = some (.inl (some (.int (Int32.ofNat (wc (wds.getD 34 []))))), mm h p' o) := fun p' => L 34 p' (by omega)
  have W76 : (Int32.ofNat (wv (ltr X (sk X p))) = Int32.ofNat (wc (wds.getD 34 []))) = (wix (ltr X (sk X p)) wWk = 4) := wk_A (by omega) (by omega) (by decide)
  have L78 : ∀ p', run gd_P0 d 191 [.ref 78] (mm h p' o) = some (.inl (some (.int (Int32.ofNat (wc (wds.getD 35 []))))), mm h p' o) := fun p' => L 35 p' (by omega)
  have W78 : (Int32.ofNat (wv (ltr X (sk X p))) = Int32.ofNat (wc (wds.getD 35 []))) = (wix (ltr X (sk X p)) wWk = 5) := wk_A (by omega) (by omega) (by decide)
  have L80 : ∀ p', run gd_P0 d 191 [.ref 80] (mm h p' o) = some (.inl (some (.int (Int32.ofNat (wc (wds.getD 36 []))))), mm h p' o) := fun p' => L 36 p' (by omega)
  have W80 : (Int32.ofNat (wv (ltr X (sk X p))) = Int32.ofNat (wc (wds.getD 36 []))) = (wix (ltr X (sk X p)) wWk = 1) := wk_A (by omega) (by omega) (by decide)
  have L82 : ∀ p', run gd_P0 d 191 [.ref 82] (mm h p' o) = some (.inl (some (.int (Int32.ofNat (wc (wds.getD 37 []))))), mm h p' o) := fun p' => L 37 p' (by omega)
  have W82 : (Int32.ofNat (wv (ltr X (sk X p))) = Int32.ofNat (wc (wds.getD 37 []))) = (wix (ltr X (sk X p)) wWk = 2) := wk_A (by omega) (by omega) (by decide)
  have L84 : ∀ p', run gd_P0 d 191 [.ref 84] (mm h p' o) = some (.inl (some (.int (Int32.ofNat (wc (wds.getD 38 []))))), mm h p' o) := fun p' => L 38 p' (by omega)
  have W84 : (Int32.ofNat (wv (ltr X (sk X p))) = Int32.ofNat (wc (wds.getD 38 []))) = (wix (ltr X (sk X p)) wWk = 3) := wk_A (by omega) (by omega) (by decide)
  have L86 : ∀ p', run gd_P0 d 191 [.ref 86] (mm h p' o) = some (.inl (some (.int (Int32.ofNat (wc (wds.getD 39 []))))), mm h p' o) := fun p' => L 39 p' (by omega)
  have W86 : (Int32.ofNat (wv (ltr X (sk X p))) = Int32.ofNat (wc (wds.getD 39 []))) = (wix (ltr X (sk X p)) wWk = 7) := wk_A (by omega) (by omega) (by decide)
  clear L
  have E0 : run gd_P0 (d + 1) 209 [.ref 1231] (mm h p o) = go gd_P0 d 209 12 [.ref 1231, .int (Int32.ofNat (wv (ltr X (sk X p)))), .null, .null] [.int (Int32.ofNat (wc (wds.getD 31 []))), .int (Int32.ofNat (wv (ltr X (sk X p))))] (mm h (sk X p) o) := by
    rw [r209, s209_0, gT_mm, if_pos hm.t, m188 hb (by omega) hp o, gc_v, s209_4, L70, gc_v]
  have M193 := m193 hb (d := d) (by omega) g2 o
  have M8 : wix (ltr X (sk X p)) wWk ≠ 8 → 3 ≤ (ltr X (sk X p)).length := fun z => wWk_len z
  have M7 : wix (ltr X (sk X p)) wWk = 7 → (ltr X (sk X p)).length = 5 := fun z => by
    rw [← wk_eq (by omega)] at z
    rw [z]; rfl
  rw [E0]
  clear E0
  unfold wUb
  rw [gl]
  generalize eA : Int32.ofNat (wv (ltr X (sk X p))) = A at *
  generalize ek : wix (ltr X (sk X p)) wWk = k at *
  generalize hr : we X (sk X p) = r at *
  -- the ends: of two numbers
  have nm : ∀ (l hs q : Nat) (hi : Int32), l ≤ 1 → hs ≤ 1001 → q ≤ xn X → (∀ v, v ≤ 1000000 → (Int32.ofNat v ≤ hi) = (v < hs)) → MR h o (some (.int 0)) (fun v => some (.int (Int32.ofNat v))) (tN X l hs q) (run gd_P0 d 195 [.ref 1231, .int (Int32.ofNat l), .int hi] (mm h q o)) ∧ QG X q (fun _ v => l ≤ v ∧ v < hs) (tN X l hs q) := fun l hs q hi h1 h2 h3 h4 => ⟨m195 hb (by omega) h3 o h1 h2 h4, tN_g h3⟩
  have h9 : ∀ v, v ≤ 1000000 → (Int32.ofNat v ≤ (9 : Int32)) = (v < 10) := fun v hv => hi_lit (n := 9) (by omega) hv
  have fin : ∀ (k' x y p2 : Nat), k' ≠ 7 → p2 ≤ xn X → ∀ {pc pc2 : Nat} {L' st : List Value}, (∀ H, go gd_P0 d 209 pc2 L' st H = go gd_P0 d 209 338 [.ref 1231, .null, .null, .null] [] H) → MYO h o c (qb (tS X 59 p2) fun p3 _ => .inr (p3, yOne E k' x y)) (gc gd_P0 d 209 pc pc2 L' st (run gd_P0 d 210 [.ref 1231, .int (Int32.ofNat k'), .int (Int32.ofNat x), .int (Int32.ofNat y)] (mm h p2 o))) := by
    intro k' x y p2 hk hp2 pc pc2 L' st hl
    rw [m210 hb (by omega) p2 o hc c50, gc_n, hl]
    exact t338 (a := yOne E k' x y) hb (lay_w h c k' x y hk) hp2 (by omega)
  have bfin : ∀ {h' : gd_H} {kk pl : Nat} (k' x y : Int32), ME h kk pl h' → pl ≤ xn X → ∀ {pc pc2 : Nat} {L' st : List Value}, (∀ H, go gd_P0 d 209 pc2 L' st H = go gd_P0 d 209 338 [.ref 1231, .null, .null, .null] [] H) → MYO h o c (.inl (kk, pl)) (gc gd_P0 d 209 pc pc2 L' st (run gd_P0 d 210 [.ref 1231, .int k', .int x, .int y] h')) := by
    intro h' kk pl k' x y me hpl pc pc2 L' st hl
    have hbs := me.bs hm (by omega)
    exact ⟨h', by rw [b210 hbs (by omega), gc_n, hl, bad338 hbs (by omega)], me⟩
  have K : k = 0 ∨ k = 1 ∨ k = 2 ∨ k = 3 ∨ k = 4 ∨ k = 5 ∨ k = 6 ∨ k = 7 ∨ k = 8 := by omega
  have t8 : ∀ q, gT (mm h q o) 1231 = 8 := fun q => by rw [gT_mm]; exact hm.t
  have s60 : ∀ (w2 w3 : Value), go gd_P0 d 209 60 [.ref 1231, .int A, w2, w3] [] (mm h (sk X p) o) = go gd_P0 d 209 72 [.ref 1231, .int A, .null, .null] [.int (Int32.ofNat (wc (wds.getD 33 []))), .int A, .ref 1231] (mm h r o) := fun w2 w3 => by
    rw [s209_60, if_pos (t8 _), M193, gc_n, s209_64, L74, gc_v]
  have n70 : k ≠ 6 → ∀ w2 w3 : Value, go gd_P0 d 209 12 [.ref 1231, .int A, w2, w3] [.int (Int32.ofNat (wc (wds.getD 31 []))), .int A] (mm h (sk X p) o) = go gd_P0 d 209 37 [.ref 1231, .int A, .null, .null] [.int (Int32.ofNat (wc (wds.getD 33 []))), .int A] (mm h (sk X p) o) := fun z w2 w3 => by rw [s209_12, if_neg (by rw [W70]; exact z), L74, gc_v]
  have n74 : k ≠ 0 → ∀ w2 w3 : Value, go gd_P0 d 209 37 [.ref 1231, .int A, w2, w3] [.int (Int32.ofNat (wc (wds.getD 33 []))), .int A] (mm h (sk X p) o) = go gd_P0 d 209 47 [.ref 1231, .int A, .null, .null] [.int (Int32.ofNat (wc (wds.getD 34 []))), .int A] (mm h (sk X p) o) := fun z w2 w3 => by rw [s209_37, if_neg (by rw [W74]; exact z), L76, gc_v]
  have n76 : k ≠ 4 → ∀ w2 w3 : Value, go gd_P0 d 209 47 [.ref 1231, .int A, w2, w3] [.int (Int32.ofNat (wc (wds.getD 34 []))), .int A] (mm h (sk X p) o) = go gd_P0 d 209 57 [.ref 1231, .int A, .null, .null] [.int (Int32.ofNat (wc (wds.getD 35 []))), .int A] (mm h (sk X p) o) := fun z w2 w3 => by rw [s209_47, if_neg (by rw [W76]; exact z), L78, gc_v]
  have n78 : k ≠ 5 → ∀ w2 w3 : Value, go gd_P0 d 209 57 [.ref 1231, .int A, w2, w3] [.int (Int32.ofNat (wc (wds.getD 35 []))), .int A] (mm h (sk X p) o) = go gd_P0 d 209 119 [.ref 1231, .int A, .null, .null] [.int (Int32.ofNat (wc (wds.getD 36 []))), .int A] (mm h (sk X p) o) := fun z w2 w3 => by rw [s209_57, if_neg (by rw [W78]; exact z), L80, gc_v]
  have n80 : k ≠ 1 → ∀ w2 w3 : Value, go gd_P0 d 209 119 [.ref 1231, .int A, w2, w3] [.int (Int32.ofNat (wc (wds.getD 36 []))), .int A] (mm h (sk X p) o) = go gd_P0 d 209 161 [.ref 1231, .int A, .null, .null] [.int (Int32.ofNat (wc (wds.getD 37 []))), .int A] (mm h (sk X p) o) := fun z w2 w3 => by rw [s209_119, if_neg (by rw [W80]; exact z), L82, gc_v]
  have n82 : k ≠ 2 → ∀ w2 w3 : Value, go gd_P0 d 209 161 [.ref 1231, .int A, w2, w3] [.int (Int32.ofNat (wc (wds.getD 37 []))), .int A] (mm h (sk X p) o) = go gd_P0 d 209 191 [.ref 1231, .int A, .null, .null] [.int (Int32.ofNat (wc (wds.getD 38 []))), .int A] (mm h (sk X p) o) := fun z w2 w3 => by rw [s209_161, if_neg (by rw [W82]; exact z), L84, gc_v]
  have n84 : k ≠ 3 → ∀ w2 w3 : Value, go gd_P0 d 209 191 [.ref 1231, .int A, w2, w3] [.int (Int32.ofNat (wc (wds.getD 38 []))), .int A] (mm h (sk X p) o) = go gd_P0 d 209 233 [.ref 1231, .int A, .null, .null] [.int (Int32.ofNat (wc (wds.getD 39 []))), .int A] (mm h (sk X p) o) := fun z w2 w3 => by rw [s209_191, if_neg (by rw [W84]; exact z), L86, gc_v]
  have r0 := t94 (o := o) (k := 0) hb hE hc c50 gw (Or.inl rfl) (d := d) (by omega)
  have r4 := t94 (o := o) (k := 4) hb hE hc c50 gw (Or.inr (Or.inl rfl)) (d := d) (by omega)
  have r5 := t94 (o := o) (k := 5) hb hE hc c50 gw (Or.inr (Or.inr rfl)) (d := d) (by omega)
  rcases K with rfl | rfl | rfl | rfl | rfl | rfl | rfl | rfl | rfl
  · rw [if_neg (by decide), if_neg (fun z => absurd z.1 (by decide)), n70 (by decide), s209_37, if_pos (by rw [W74]), s60, s209_72, if_pos (by rw [W74])]
    exact r0 _ _ _
  · rw [if_neg (by decide), if_neg (fun z => absurd z.1 (by decide)), n70 (by decide), n74 (by decide), n76 (by decide), n78 (by decide), s209_119, if_pos (by rw [W80]), if_pos (t8 _), M193, gc_n, s209_126, if_pos (t8 _), if_pos (t8 _), mm_j h r o (by omega) (by omega), e21]
    show MYO h o c (qb (qb (tN X 0 (eN E) r) fun p1 v => qb (tN X 0 10 p1) fun p2 w => .inr (p2, yOne E 1 v w)) fun p1 b => qb (tS X 59 p1) fun p2 _ => .inr (p2, b)) _
    obtain ⟨n, g⟩ := nm 0 (eN E) r (Int32.ofNat (eN E) - 1) (by omega) (by omega) gw (fun v hv => hi_ok (by omega) hv)
    revert n g
    rcases tN X 0 (eN E) r with ⟨kk, pl⟩ | ⟨p1, v⟩
    · rintro ⟨h', e, me⟩ g
      have e : run gd_P0 d 195 [.ref 1231, .int 0, .int (Int32.ofNat (eN E) - 1)] (mm h r o) = _ := e
      have hbs := me.bs hm (by have := g.2; omega)
      rw [e, gc_v, s209_137, if_pos hbs.1.t, b195 hbs (by omega), gc_v, s209_148, if_pos hbs.1.t]
      exact bfin _ _ _ me g.2 (fun H => s209_151 ..)
    intro e g
    have e : run gd_P0 d 195 [.ref 1231, .int 0, .int (Int32.ofNat (eN E) - 1)] (mm h r o) = _ := e
    rw [e, gc_v, s209_137, if_pos (t8 _), qb_r]
    obtain ⟨n2, gg2⟩ := nm 0 10 p1 9 (by omega) (by omega) g.2.1 h9
    revert n2 gg2
    rcases tN X 0 10 p1 with ⟨kk, pl⟩ | ⟨p2, w⟩
    · rintro ⟨h', e2, me⟩ g2
      have e2 : run gd_P0 d 195 [.ref 1231, .int 0, .int 9] (mm h p1 o) = _ := e2
      have hbs := me.bs hm (by have := g2.2; omega)
      rw [e2, gc_v, s209_148, if_pos hbs.1.t]
      exact bfin _ _ _ me g2.2 (fun H => s209_151 ..)
    intro e2 g2
    have e2 : run gd_P0 d 195 [.ref 1231, .int 0, .int 9] (mm h p1 o) = _ := e2
    rw [e2, gc_v, s209_148, if_pos (t8 _)]
    exact fin 1 v w p2 (by omega) g2.2.1 (fun H => s209_151 ..)
  · rw [if_neg (by decide), if_neg (fun z => absurd z.1 (by decide)), n70 (by decide), n74 (by decide), n76 (by decide), n78 (by decide), n80 (by decide), s209_161, if_pos (by rw [W82]), if_pos (t8 _), M193, gc_n, s209_168, if_pos (t8 _)]
    show MYO h o c (qb (qb (tN X 0 10 r) fun p1 v => .inr (p1, yOne E 2 v 0)) fun p1 b => qb (tS X 59 p1) fun p2 _ => .inr (p2, b)) _
    obtain ⟨n2, gg2⟩ := nm 0 10 r 9 (by omega) (by omega) gw h9
    revert n2 gg2
    rcases tN X 0 10 r with ⟨kk, pl⟩ | ⟨p2, w⟩
    · rintro ⟨h', e2, me⟩ g2
      have e2 : run gd_P0 d 195 [.ref 1231, .int 0, .int 9] (mm h r o) = _ := e2
      have hbs := me.bs hm (by have := g2.2; omega)
      rw [e2, gc_v, s209_177, if_pos hbs.1.t]
      exact bfin _ _ _ me g2.2 (fun H => s209_181 ..)
    intro e2 g2
    have e2 : run gd_P0 d 195 [.ref 1231, .int 0, .int 9] (mm h r o) = _ := e2
    rw [e2, gc_v, s209_177, if_pos (t8 _)]
    exact fin 2 w 0 p2 (by omega) g2.2.1 (fun H => s209_181 ..)
  · rw [if_neg (by decide), if_neg (fun z => absurd z.1 (by decide)), n70 (by decide), n74 (by decide), n76 (by decide), n78 (by decide), n80 (by decide), n82 (by decide), s209_191, if_pos (by rw [W84]), if_pos (t8 _), M193, gc_n, s209_198, if_pos (t8 _), if_pos (t8 _), mm_j h r o (by omega) (by omega), e20]
    show MYO h o c (qb (qb (tN X 0 (eB E) r) fun p1 v => qb (tN X 1 10 p1) fun p2 w => .inr (p2, yOne E 3 v w)) fun p1 b => qb (tS X 59 p1) fun p2 _ => .inr (p2, b)) _
    obtain ⟨n, g⟩ := nm 0 (eB E) r (Int32.ofNat (eB E) - 1) (by omega) (by omega) gw (fun v hv => hi_ok (by omega) hv)
    revert n g
    rcases tN X 0 (eB E) r with ⟨kk, pl⟩ | ⟨p1, v⟩
    · rintro ⟨h', e, me⟩ g
      have e : run gd_P0 d 195 [.ref 1231, .int 0, .int (Int32.ofNat (eB E) - 1)] (mm h r o) = _ := e
      have hbs := me.bs hm (by have := g.2; omega)
      rw [e, gc_v, s209_209, if_pos hbs.1.t, b195 hbs (by omega), gc_v, s209_220, if_pos hbs.1.t]
      exact bfin _ _ _ me g.2 (fun H => s209_223 ..)
    intro e g
    have e : run gd_P0 d 195 [.ref 1231, .int 0, .int (Int32.ofNat (eB E) - 1)] (mm h r o) = _ := e
    rw [e, gc_v, s209_209, if_pos (t8 _), qb_r]
    obtain ⟨n2, gg2⟩ := nm 1 10 p1 9 (by omega) (by omega) g.2.1 h9
    revert n2 gg2
    rcases tN X 1 10 p1 with ⟨kk, pl⟩ | ⟨p2, w⟩
    · rintro ⟨h', e2, me⟩ g2
      have e2 : run gd_P0 d 195 [.ref 1231, .int 1, .int 9] (mm h p1 o) = _ := e2
      have hbs := me.bs hm (by have := g2.2; omega)
      rw [e2, gc_v, s209_220, if_pos hbs.1.t]
      exact bfin _ _ _ me g2.2 (fun H => s209_223 ..)
    intro e2 g2
    have e2 : run gd_P0 d 195 [.ref 1231, .int 1, .int 9] (mm h p1 o) = _ := e2
    rw [e2, gc_v, s209_220, if_pos (t8 _)]
    exact fin 3 v w p2 (by omega) g2.2.1 (fun H => s209_223 ..)
  · rw [if_neg (by decide), if_neg (fun z => absurd z.1 (by decide)), n70 (by decide), n74 (by decide), s209_47, if_pos (by rw [W76]), s60, s209_72, if_neg (by rw [W74]; decide), L76, gc_v, s209_86, if_pos (by rw [W76])]
    exact r4 _ _ _
  · rw [if_neg (by decide), if_neg (fun z => absurd z.1 (by decide)), n70 (by decide), n74 (by decide), n76 (by decide), s209_57, if_pos (by rw [W78]), s60, s209_72, if_neg (by rw [W74]; decide), L76, gc_v, s209_86, if_neg (by rw [W76]; decide)]
    exact r5 _ _ _
  · rw [if_neg (by decide), if_neg (fun z => absurd z.1 (by decide)), s209_12, if_pos (by rw [W70]), if_pos (t8 _), M193, gc_n, s209_19, if_pos (t8 _)]
    exact fin 6 0 0 r (by omega) gw (fun H => s209_27 ..)
  · have e0 : go gd_P0 d 209 12 [.ref 1231, .int A, .null, .null] [.int (Int32.ofNat (wc (wds.getD 31 []))), .int A] (mm h (sk X p) o) = gc gd_P0 d 209 238 241 [.ref 1231, .null, .null, .null] [] (run gd_P0 d 204 [.ref 1231, .int 5] (mm h (sk X p) o)) := by
      rw [n70 (by decide), n74 (by decide), n76 (by decide), n78 (by decide), n80 (by decide), n82 (by decide), n84 (by decide), s209_233, if_pos (by rw [W86]), if_pos (t8 _)]
    rw [e0, if_neg (by decide)]
    have rl := M7 rfl
    cases big with
    | false =>
      rw [ho rfl, if_pos ⟨rfl, rfl⟩]
      obtain ⟨h', e, me⟩ := m204n hb (d := d) (by omega) g2 5
      have e : run gd_P0 d 204 [.ref 1231, .int 5] (mm h (sk X p) 6) = _ := e
      obtain ⟨h2, e2, me2⟩ := bad241 hm me (by omega) (d := d) (by omega) .null .null .null
      have hbs := me2.bs hm (by omega)
      exact ⟨h2, by rw [e, gc_n, e2, bad338 hbs (by omega)], me2⟩
    | true =>
      obtain ⟨o6, ha⟩ := hS1 rfl
      rw [if_neg (fun z => by have := z.2; cases this)]
      have e : run gd_P0 d 204 [.ref 1231, .int 5] (mm h (sk X p) o) = some (.inl none, mm h (sk X p + 5) (o + 1)) := m204 hb (by omega) (sk X p) 5 o6
      rw [e, gc_n, show sk X p + 5 = r by omega]
      have a := ha d h r c (by omega) hb hS hE hc gw (by omega)
      show MYO h o c (qb (S r) fun p1 b => qb (tS X 59 p1) fun p2 _ => .inr (p2, b)) _
      revert a
      rcases S r with ⟨kk, pl⟩ | ⟨p1, b⟩
      · rintro ⟨h', e', me, hpl⟩
        have hbs := me.bs hm (by omega)
        exact ⟨h', by rw [e', bad338 hbs (by omega)], me⟩
      · rintro ⟨h', e', w, hp1⟩
        rw [e', qb_r]
        exact t338 hb w hp1 (by omega)
  · rw [if_pos rfl, n70 (by decide), n74 (by decide), n76 (by decide), n78 (by decide), n80 (by decide), n82 (by decide), n84 (by decide), s209_233, if_neg (by rw [W86]; decide), if_pos (t8 _), if_pos (t8 _), mm_4]
    obtain ⟨h', e, me⟩ := m192 hb (d := d) (by omega) (sk X p) o 1 (sk X p)
    have e : run gd_P0 d 192 [.ref 1231, .int 1, .int (Int32.ofNat (sk X p))] (mm h (sk X p) o) = _ := e
    have hbs := me.bs hm (by omega)
    exact ⟨h', by rw [e, gc_n, bad338 hbs (by omega)], me⟩

/-! ===== THE CALL school: the model reads ===== -/
set_option maxRecDepth 100000
def ScM (I : Nat → Nat → Int32) (a : gdS) : Prop := (I 1231 18 = Int32.ofNat (scB a) ∧ I 1231 19 = Int32.ofNat (scN a)) ∧ (∀ k, k < scB a → I 1234 (2 * k) = scT a k ∧ I 1234 (2 * k + 1) = scG a k) ∧ (∀ p, p < scN a → I 1235 (2 * p) = scH a p ∧ I 1235 (2 * p + 1) = scF a p) ∧ (∀ p, p < 7 → I 1236 p = scK a p) ∧ ∀ m, m < 12 → I 1237 m = scR a m
/-- how a reading of a school's part ends -/
def SO (h : gd_H) : gdQ gdS → Option gd_O → Prop
  | .inl (k, pl), out => ∃ h', out = some (.inl none, h') ∧ ME h k pl h'
  | .inr (p', b), out => ∃ h', out = some (.inl none, mm h' p' 0) ∧ MZ0 h h' ∧ (gI h' 1231 3 = gI h 1231 3 ∧ gI h' 1231 5 = gI h 1231 5) ∧ ScM (gI h') b
theorem MB.z {h h' : gd_H} {X : gdX} (hb : MB h X) (q : MZ h h') (h35 : gI h' 1231 3 = gI h 1231 3 ∧ gI h' 1231 5 = gI h 1231 5) : MB h' X := by
  obtain ⟨b1, ⟨b2, b3⟩, b4, b5⟩ := hb
  obtain ⟨I', J', rfl, hI, -⟩ := id q
  exact ⟨b1.mz q, ⟨h35.1.trans b2, h35.2.trans b3⟩, fun j hj => by show I' 1233 j = _; rw [hI 1233 (by unfold mper; omega)]; exact b4 j hj, b5⟩
theorem m190 {X : gdX} (q : Nat) {h : gd_H} (hs : SK h) {d : Nat} (hd : 6 ≤ d) : run gd_P0 d 190 [.int (Int32.ofNat (wv (ltr X q)))] h = some (.inl (some (.int (if wix (ltr X q) wSc < 4 then 1 else 0))), h) := by
  obtain ⟨d, rfl⟩ : ∃ e, d = e + 1 := ⟨d - 1, by omega⟩
  have ey : ∀ w0, go gd_P0 d 190 36 [w0] [] h = some (.inl (some (.int 1)), h) := fun w0 => by rw [s190_36, s190_41, if_pos (Or.inr rfl)]
  rw [r190, s190_0]
  have w22 : run gd_P0 d 191 [.ref 52] h = _ := m191 hs (d := d) (by omega) (j := 22) (by omega)
  have q22 : (Int32.ofNat (wv (ltr X q)) = Int32.ofNat (wc (wds.getD 22 []))) = (ltr X q = [98, 111, 97, 114, 100]) := wv_eq (j := 22) (by omega)
  rw [w22, gc_v, s190_6]
  simp only [q22]
  by_cases x0 : ltr X q = [98, 111, 97, 114, 100]
  · have hk : wix (ltr X q) wSc = 0 := by unfold wSc; rw [wix, if_pos x0]
    rw [if_pos x0, hk, if_pos (by omega), ey]
  rw [if_neg x0]
  have w23 : run gd_P0 d 191 [.ref 54] h = _ := m191 hs (d := d) (by omega) (j := 23) (by omega)
  have q23 : (Int32.ofNat (wv (ltr X q)) = Int32.ofNat (wc (wds.getD 23 []))) = (ltr X q = [98, 111, 121]) := wv_eq (j := 23) (by omega)
  rw [w23, gc_v, s190_15]
  simp only [q23]
  by_cases x1 : ltr X q = [98, 111, 121]
  · have hk : wix (ltr X q) wSc = 1 := by unfold wSc; rw [wix, if_neg x0, wix, if_pos x1]
    rw [if_pos x1, hk, if_pos (by omega), ey]
  rw [if_neg x1]
  have w24 : run gd_P0 d 191 [.ref 56] h = _ := m191 hs (d := d) (by omega) (j := 24) (by omega)
  have q24 : (Int32.ofNat (wv (ltr X q)) = Int32.ofNat (wc (wds.getD 24 []))) = (ltr X q = [107, 105, 110]) := wv_eq (j := 24) (by omega)
  rw [w24, gc_v, s190_24]
  simp only [q24]
  by_cases x2 : ltr X q = [107, 105, 110]
  · have hk : wix (ltr X q) wSc = 2 := by unfold wSc; rw [wix, if_neg x0, wix, if_neg x1, wix, if_pos x2]
    rw [if_pos x2, hk, if_pos (by omega), ey]
  rw [if_neg x2]
  have w25 : run gd_P0 d 191 [.ref 58] h = _ := m191 hs (d := d) (by omega) (j := 25) (by omega)
  have q25 : (Int32.ofNat (wv (ltr X q)) = Int32.ofNat (wc (wds.getD 25 []))) = (ltr X q = [114, 97, 105, 110]) := wv_eq (j := 25) (by omega)
  rw [w25, gc_v, s190_33]
  simp only [q25]
  by_cases x3 : ltr X q = [114, 97, 105, 110]
  · have hk : wix (ltr X q) wSc = 3 := by unfold wSc; rw [wix, if_neg x0, wix, if_neg x1, wix, if_neg x2, wix, if_pos x3]
    rw [if_pos x3, hk, if_pos (by omega), ey]
  rw [if_neg x3]
  have hk : wix (ltr X q) wSc = 4 := by unfold wSc; rw [wix, if_neg x0, wix, if_neg x1, wix, if_neg x2, wix, if_neg x3, wix]
  rw [hk, if_neg (by omega), s190_41, if_pos (Or.inl rfl)]
theorem ne_1 : ¬ (1 : Int32) = 0 := by decide
/-- a write into a scratch cell of the model -/
theorem sc_w {h : gd_H} {X : gdX} (hb : MB h X) {a j : Nat} {v : Int32} (ha : a = 1234 ∨ a = 1235 ∨ a = 1236 ∨ a = 1237 ∨ (a = 1231 ∧ (j = 18 ∨ j = 19))) : MZ0 h (wI h (up1 (gI h) a j v)) ∧ MB (wI h (up1 (gI h) a j v)) X := by
  have z : MZ0 h (wI h (up1 (gI h) a j v)) := by
    rcases ha with h1 | h1 | h1 | h1 | ⟨h1, h2⟩
    · exact ⟨MZ.i fun b hb => up1_nc _ _ _ (by unfold mper at hb; omega), by rw [gI_wI, up1_nc _ _ _ (by omega)]⟩
    · exact ⟨MZ.i fun b hb => up1_nc _ _ _ (by unfold mper at hb; omega), by rw [gI_wI, up1_nc _ _ _ (by omega)]⟩
    · exact ⟨MZ.i fun b hb => up1_nc _ _ _ (by unfold mper at hb; omega), by rw [gI_wI, up1_nc _ _ _ (by omega)]⟩
    · exact ⟨MZ.i fun b hb => up1_nc _ _ _ (by unfold mper at hb; omega), by rw [gI_wI, up1_nc _ _ _ (by omega)]⟩
    · subst h1
      exact MZ0.th j v (by rcases h2 with h2 | h2 <;> (rw [h2]; decide)) (by omega)
  refine ⟨z, hb.z z.1 ⟨?_, ?_⟩⟩
  · by_cases y : a = 1231
    · subst y; rw [gI_wI, up1_nj _ _ (by omega)]
    · rw [gI_wI, up1_nc _ _ _ (by omega)]
  · by_cases y : a = 1231
    · subst y; rw [gI_wI, up1_nj _ _ (by omega)]
    · rw [gI_wI, up1_nc _ _ _ (by omega)]
theorem ME.sc {h h' : gd_H} {k pl : Nat} (e : ME h k pl h') {a j : Nat} {v : Int32} (ha : a = 1234 ∨ a = 1235 ∨ (a = 1231 ∧ (j = 18 ∨ j = 19))) : ME h k pl (wI h' (up1 (gI h') a j v)) := by
  have z : MZ0 h' (wI h' (up1 (gI h') a j v)) := by
    rcases ha with h1 | h1 | ⟨h1, h2⟩
    · exact ⟨MZ.i fun b hb => up1_nc _ _ _ (by unfold mper at hb; omega), by rw [gI_wI, up1_nc _ _ _ (by omega)]⟩
    · exact ⟨MZ.i fun b hb => up1_nc _ _ _ (by unfold mper at hb; omega), by rw [gI_wI, up1_nc _ _ _ (by omega)]⟩
    · subst h1
      exact MZ0.th j v (by rcases h2 with h2 | h2 <;> (rw [h2]; decide)) (by omega)
  refine ⟨e.1.trans z, ?_, ?_⟩
  · by_cases y : a = 1231
    · subst y; rw [gI_wI, up1_nj _ _ (by omega)]; exact e.2.1
    · rw [gI_wI, up1_nc _ _ _ (by omega)]; exact e.2.1
  · by_cases y : a = 1231
    · subst y; rw [gI_wI, up1_nj _ _ (by omega)]; exact e.2.2
    · rw [gI_wI, up1_nc _ _ _ (by omega)]; exact e.2.2
theorem mm_self' {h : gd_H} {p o : Nat} (h4 : gI h 1231 4 = Int32.ofNat p) (h7 : gI h 1231 7 = Int32.ofNat o) : mm h p o = h := mm_self h4 h7
/-- where the reading stands -/
def AT (X : gdX) (h h' : gd_H) : Prop := gI h' 1231 3 = Int32.ofNat (xn X) ∧ (∃ q o, q ≤ xn X ∧ gI h' 1231 4 = Int32.ofNat q ∧ gI h' 1231 7 = Int32.ofNat o) ∧ (∀ j, j < xn X → gI h' 1233 j = Int32.ofNat (xb X j)) ∧ ∀ j, j ≠ 4 → j ≠ 5 → j ≠ 6 → j ≠ 7 → gI h' 1231 j = gI h 1231 j
theorem m192x {h : gd_H} {X : gdX} (hb : MB h X) {d : Nat} (hd : 1 ≤ d) {p : Nat} (hp : p ≤ xn X) (o k pl : Nat) : ∃ h', run gd_P0 d 192 [.ref 1231, .int (Int32.ofNat k), .int (Int32.ofNat pl)] (mm h p o) = some (.inl none, h') ∧ ME h k pl h' ∧ AT X h h' := by
  obtain ⟨d, rfl⟩ : ∃ e, d = e + 1 := ⟨d - 1, by omega⟩
  refine ⟨wI (mm h p o) (up1 (up1 (gI (mm h p o)) 1231 5 (Int32.ofNat pl)) 1231 6 (Int32.ofNat k)), ?_, ⟨?_, ?_, ?_⟩, ?_, ⟨p, o, hp, ?_, ?_⟩, fun j hj => ?_, fun j j4 j5 j6 j7 => ?_⟩
  · rw [r192, s192_0, gT_mm, if_pos hb.1.t, mm_j h p o (by omega) (by omega), if_pos hb.2.1.2, if_pos hb.1.t, if_pos hb.1.t]
  · exact (MZ0.mm h p o).trans ((MZ0.th 5 (Int32.ofNat pl) (by decide) (by decide)).trans (MZ0.th (h := wI (mm h p o) (up1 (gI (mm h p o)) 1231 5 (Int32.ofNat pl))) 6 (Int32.ofNat k) (by decide) (by decide)))
  · rw [gI_wI]; simp [up1]
  · rw [gI_wI]; simp [up1]
  · rw [gI_wI, up1_nj _ _ (by omega), up1_nj _ _ (by omega), mm_j _ _ _ (by omega) (by omega)]; exact hb.2.1.1
  · rw [gI_wI, up1_nj _ _ (by omega), up1_nj _ _ (by omega), mm_4]
  · rw [gI_wI, up1_nj _ _ (by omega), up1_nj _ _ (by omega), mm_7]
  · rw [gI_wI, up1_nc _ _ _ (by omega), up1_nc _ _ _ (by omega), mm_b _ _ _ (by omega)]; exact hb.2.2.1 j hj
  · rw [gI_wI, up1_nj _ _ j6, up1_nj _ _ j5, mm_j _ _ _ j4 j7]
def MRx {α : Type} (X : gdX) (h : gd_H) (o : Nat) (bv : Option Value) (val : α → Option Value) : gdQ α → Option gd_O → Prop
  | .inl (k, pl), out => ∃ h', out = some (.inl bv, h') ∧ ME h k pl h' ∧ AT X h h'
  | .inr (p', a), out => out = some (.inl (val a), mm h p' o)
theorem m195x {h : gd_H} {X : gdX} (hb : MB h X) {d : Nat} (hd : 2 ≤ d) {p : Nat} (hp : p ≤ xn X) (o : Nat) {l hs : Nat} (hl : l ≤ 1) (hhs : hs ≤ 1001) {hi : Int32} (hh : ∀ v, v ≤ 1000000 → (Int32.ofNat v ≤ hi) = (v < hs)) : MRx X h o (some (.int 0)) (fun v => some (.int (Int32.ofNat v))) (tN X l hs p) (run gd_P0 d 195 [.ref 1231, .int (Int32.ofNat l), .int hi] (mm h p o)) := by
  obtain ⟨d, rfl⟩ : ∃ e, d = e + 1 := ⟨d - 1, by omega⟩
  have hX : XO X := hb.2.2.2
  have hn6 : xn X ≤ 600 := hX.1
  have g2 := sk_le hp
  have e : run gd_P0 (d + 1) 195 [.ref 1231, .int (Int32.ofNat l), .int hi] (mm h p o) = go gd_P0 d 195 27 [.ref 1231, .int (Int32.ofNat l), .int hi, .int (mv X (sk X p)), .int (Int32.ofNat (sk X p)), .int 0] [.int (if dgt (ch X (sk X p)) = true then 1 else 0)] (mm h (sk X p) o) := by
    rw [r195, s195_0, gT_mm, if_pos hb.1.t, m185 hb (by omega), gc_v, s195_4, if_neg (show ¬ (1 : Int32) = 0 by decide), gT_mm, if_pos hb.1.t, m187 hb (by omega) hp, gc_v, s195_13, gT_mm, if_pos hb.1.t, mm_4, m196v hX (by omega), gc_v]
  rw [e, s195_27]
  unfold tN
  by_cases z : dgt (ch X (sk X p)) = true
  · rw [if_pos z, if_pos z, if_neg (show ¬ (1 : Int32) = 0 by decide)]
    obtain ⟨v', h1, h2, h3⟩ := lp195 hb (d := d) (by omega) o (Int32.ofNat l) hi (sk X p) (xn X - sk X p) (sk X p) 0 0 (by omega) (by omega) (by omega)
    have h3 : go gd_P0 d 195 41 [.ref 1231, .int (Int32.ofNat l), .int hi, .null, .int (Int32.ofNat (sk X p)), .int 0] [] (mm h (sk X p) o) = go gd_P0 d 195 114 [.ref 1231, .int (Int32.ofNat l), .int hi, .null, .int (Int32.ofNat (sk X p)), .int (Int32.ofNat v')] [] (mm h (de X (sk X p)) o) := h3
    have h2 : min v' 10000 = dv (xb X) (de X (sk X p) - sk X p) (sk X p) 0 := h2
    have er : MRx (α := Nat) X h o (some (.int 0)) (fun v => some (.int (Int32.ofNat v))) (.inl (2, sk X p)) (go gd_P0 d 195 126 [.ref 1231, .int (Int32.ofNat l), .int hi, .null, .int (Int32.ofNat (sk X p)), .int (Int32.ofNat v')] [] (mm h (de X (sk X p)) o)) := by
      obtain ⟨h', e1, e2⟩ := m192x hb (d := d) (by omega) (p := de X (sk X p)) (de_le g2) o 2 (sk X p)
      have e1 : run gd_P0 d 192 [.ref 1231, .int 2, .int (Int32.ofNat (sk X p))] (mm h (de X (sk X p)) o) = _ := e1
      rw [s195_126, gT_mm, if_pos hb.1.t, e1, gc_n, s195_133]
      exact ⟨h', rfl, e2⟩
    rw [h3, s195_114, ← h2]
    simp only [j_lt (show v' < 2147483648 by omega) (show l < 2147483648 by omega), hh v' (by omega)]
    by_cases c1 : v' < l
    · rw [if_pos c1, if_neg (by omega)]; exact er
    · rw [if_neg c1]
      by_cases c2 : v' < hs
      · rw [if_pos c2, if_pos (by omega), show min v' 10000 = v' by omega]; rfl
      · rw [if_neg c2, if_neg (by omega)]; exact er
  · obtain ⟨h', e1, e2⟩ := m192x hb (d := d) (by omega) (p := sk X p) g2 o 1 (sk X p)
    have e1 : run gd_P0 d 192 [.ref 1231, .int 1, .int (Int32.ofNat (sk X p))] (mm h (sk X p) o) = _ := e1
    rw [if_neg z, if_neg z, if_pos rfl, gT_mm, if_pos hb.1.t, if_pos hb.1.t, mm_4, e1, gc_n, s195_39]
    exact ⟨h', rfl, e2⟩
theorem b187 {h h' : gd_H} {X : gdX} {k pl : Nat} (hX : XO X) (hm : MS h) (me : ME h k pl h') (at' : AT X h h') {d : Nat} (hd : 1 ≤ d) : ∃ h2 z, run gd_P0 d 187 [.ref 1231] h' = some (.inl (some (.int z)), h2) ∧ ME h k pl h2 ∧ ∃ q, gI h2 1231 4 = Int32.ofNat q := by
  obtain ⟨a3, ⟨q, o, hq, a4, a7⟩, aB, -⟩ := at'
  have e : mm h' q o = h' := mm_self' a4 a7
  have r := m187g (h := h') (hm.mz me.1.1) a3 aB hX hd hq o
  rw [e] at r
  exact ⟨_, _, r, ⟨me.1.trans (MZ0.mm _ _ _), (mm_j _ _ _ (by omega) (by omega)).trans me.2.1, (mm_j _ _ _ (by omega) (by omega)).trans me.2.2⟩, sk X q, mm_4 _ _ _⟩
theorem m197 {h : gd_H} {X : gdX} {a : gdS} (hb : MB h X) (sm : ScM (gI h) a) (hN : scN a ≤ 7) {p : Nat} (hp : p ≤ xn X) {d : Nat} (hd : 4 ≤ d) : SO h (sCl X 2 a p) (run gd_P0 d 197 [.ref 1231] (mm h p 0)) := by
  obtain ⟨d, rfl⟩ : ∃ e, d = e + 1 := ⟨d - 1, by omega⟩
  have hX : XO X := hb.2.2.2
  have hn6 : xn X ≤ 600 := hX.1
  have hm := hb.1
  obtain ⟨⟨i18, i19⟩, iT, iH, iK, iR⟩ := id sm
  have e19 : ∀ q, gI (mm h q 0) 1231 19 = Int32.ofNat (scN a) := fun q => (mm_j _ _ _ (by omega) (by omega)).trans i19
  have sc : sCl X 2 a p = qb (tN X 0 (scN a) p) fun p1 x => qb (tN X 0 (scN a) p1) fun p2 y => if x = y then .inl (2, sk X p1) else .inr (p2, (a.1, a.2.1, a.2.2.1, kKin (scK a) x y, scR a)) := rfl
  have bad52 : ∀ (h' : gd_H) (k pl : Nat) (x y : Int32), ME h k pl h' → pl < 100000 → ∃ h2, go gd_P0 d 197 52 [.ref 1231, .int x, .int (Int32.ofNat 0), .int y] [] h' = some (.inl none, h2) ∧ ME h k pl h2 := by
    intro h' k pl x y me hpl
    have hbs := me.bs hm hpl
    exact ⟨h', by rw [s197_52, if_pos hbs.1.t, b185 hbs (by omega), gc_v, s197_56, if_pos rfl], me⟩
  have bad52' : ∀ (h' : gd_H) (k pl : Nat) (x z y : Int32), ME h k pl h' → pl < 100000 → SO h (.inl (k, pl)) (go gd_P0 d 197 52 [.ref 1231, .int x, .int z, .int y] [] h') := by
    intro h' k pl x z y me hpl
    have hbs := me.bs hm hpl
    exact ⟨h', by rw [s197_52, if_pos hbs.1.t, b185 hbs (by omega), gc_v, s197_56, if_pos rfl], me⟩
  have bad33 : ∀ (h' : gd_H) (k pl : Nat) (x z y : Int32), ME h k pl h' → pl < 100000 → SO h (.inl (k, pl)) (go gd_P0 d 197 33 [.ref 1231, .int x, .int z, .null] [.int y] h') := by
    intro h' k pl x z y me hpl
    have hbs := me.bs hm hpl
    rw [s197_33, if_pos hbs.1.t, b185 hbs (by omega), gc_v, s197_38, if_pos rfl]
    exact bad52' h' k pl x z y me hpl
  rw [sc, r197, s197_0, gT_mm, if_pos hm.t, if_pos hm.t, e19]
  have n1 := m195x hb (d := d) (by omega) hp 0 (l := 0) (hs := scN a) (by omega) (by omega) (hi := Int32.ofNat (scN a) - 1) (fun v hv => hi_ok (by omega) hv)
  have g1 := tN_g (X := X) (lo := 0) (hs := scN a) hp
  revert n1 g1
  rcases tN X 0 (scN a) p with ⟨kk, pl⟩ | ⟨p1, x⟩
  · rintro ⟨h', e, me, at'⟩ g1
    have hpl : pl < 100000 := by have := g1.2; omega
    have hbs := me.bs hm hpl
    have e : run gd_P0 d 195 [.ref 1231, .int 0, .int (Int32.ofNat (scN a) - 1)] (mm h p 0) = _ := e
    obtain ⟨h2, z, e2, me2, q, e4⟩ := b187 hX hm me at' (d := d) (by omega)
    have hbs2 := me2.bs hm hpl
    rw [e, gc_v, s197_11, if_pos hbs.1.t, e2, gc_v, s197_16, if_pos hbs2.1.t, if_pos hbs2.1.t, if_pos hbs2.1.t, b195 hbs2 (by omega), gc_v]
    exact bad33 h2 kk pl _ _ _ me2 hpl
  intro n1 g1
  obtain ⟨a1, a2, a3, a4⟩ := g1
  have n1 : run gd_P0 d 195 [.ref 1231, .int 0, .int (Int32.ofNat (scN a) - 1)] (mm h p 0) = _ := n1
  have gs2 := sk_le a2
  rw [n1, gc_v, s197_11, gT_mm, if_pos hm.t, m187 hb (by omega) a2, gc_v, s197_16, gT_mm, if_pos hm.t, if_pos hm.t, if_pos hm.t, mm_4, e19, qb_r]
  have n2 := m195 hb (d := d) (by omega) gs2 0 (l := 0) (hs := scN a) (by omega) (by omega) (hi := Int32.ofNat (scN a) - 1) (fun v hv => hi_ok (by omega) hv)
  have g2 := tN_g (X := X) (lo := 0) (hs := scN a) a2
  rw [tN_sk a2] at n2
  revert n2 g2
  rcases tN X 0 (scN a) p1 with ⟨kk, pl⟩ | ⟨p2, y⟩
  · rintro ⟨h', e, me⟩ g2
    have hpl : pl < 100000 := by have := g2.2; omega
    have e : run gd_P0 d 195 [.ref 1231, .int 0, .int (Int32.ofNat (scN a) - 1)] (mm h (sk X p1) 0) = _ := e
    rw [e, gc_v]
    exact bad33 h' kk pl _ _ _ me hpl
  intro n2 g2
  obtain ⟨b1, b2, b3, b4⟩ := g2
  have n2 : run gd_P0 d 195 [.ref 1231, .int 0, .int (Int32.ofNat (scN a) - 1)] (mm h (sk X p1) 0) = _ := n2
  rw [n2, gc_v, s197_33, gT_mm, if_pos hm.t, m185 hb (by omega), gc_v, s197_38, if_neg ne_1, qb_r]
  simp only [j_eq (show x < 2147483648 by omega) (show y < 2147483648 by omega)]
  by_cases xy : x = y
  · obtain ⟨h', e1, me⟩ := m192 hb (d := d) (by omega) p2 0 2 (sk X p1)
    have e1 : run gd_P0 d 192 [.ref 1231, .int 2, .int (Int32.ofNat (sk X p1))] (mm h p2 0) = _ := e1
    rw [if_pos xy, if_pos xy, gT_mm, if_pos hm.t, e1, gc_n]
    exact bad52' h' 2 (sk X p1) _ _ _ me (by omega)
  · have c8 : ∀ z, z < scN a → ((31 : Nat) = 31 ∧ ¬ (Int32.ofNat z < 0 ∨ 7 ≤ (Int32.ofNat z).toNatClampNeg)) := fun z hz => ⟨rfl, by rw [j_ix (by omega) (by omega)]; exact trivial⟩
    have e8 : gI (mm h p2 0) 1236 = gI h 1236 := mm_b _ _ _ (by omega)
    rw [if_neg xy, if_neg xy, s197_52, gT_mm, if_pos hm.t, m185 hb (by omega), gc_v, s197_56, if_neg ne_1, gT_mm, gR_mm, gL_mm, if_pos hm.t, m_r12 hm, m_t12 hm, m_l12 hm, if_pos (c8 x a4), if_pos (c8 x a4), if_pos hm.t, if_pos (c8 y b4), if_pos (c8 y b4), j_cl (by omega), j_cl (by omega), e8]
    obtain ⟨z1, hb1⟩ := sc_w hb (a := 1236) (j := x) (v := gI h 1236 x ||| ((1 : Int32) <<< (Int32.ofNat y &&& 31))) (by omega)
    obtain ⟨z2, hb2⟩ := sc_w hb1 (a := 1236) (j := y) (v := up1 (gI h) 1236 x (gI h 1236 x ||| ((1 : Int32) <<< (Int32.ofNat y &&& 31))) 1236 y ||| ((1 : Int32) <<< (Int32.ofNat x &&& 31))) (by omega)
    refine ⟨_, ?_, z1.trans z2, ⟨hb2.2.1.1.trans hb.2.1.1.symm, hb2.2.1.2.trans hb.2.1.2.symm⟩, ?_⟩
    · rw [← mm_wa (h := wI h (up1 (gI h) 1236 x (gI h 1236 x ||| ((1 : Int32) <<< (Int32.ofNat y &&& 31))))) (Or.inl (by omega)), ← mm_wa (h := h) (Or.inl (by omega)), wI_wI, gI_wI]
      have u : up1 (gI (mm h p2 0)) 1236 x (gI h 1236 x ||| ((1 : Int32) <<< (Int32.ofNat y &&& 31))) 1236 y = up1 (gI h) 1236 x (gI h 1236 x ||| ((1 : Int32) <<< (Int32.ofNat y &&& 31))) 1236 y := by
        rw [up1_nj _ _ (fun z => xy z.symm), up1_nj _ _ (fun z => xy z.symm), e8]
      rw [u]
    · refine ⟨⟨?_, ?_⟩, fun k hk => ?_, fun q hq => ?_, fun q hq => ?_, fun m hm => ?_⟩
      · rw [gI_wI, up1_nc _ _ _ (by omega), gI_wI, up1_nc _ _ _ (by omega)]; exact i18
      · rw [gI_wI, up1_nc _ _ _ (by omega), gI_wI, up1_nc _ _ _ (by omega)]; exact i19
      · rw [gI_wI, up1_nc _ _ _ (by omega), gI_wI, up1_nc _ _ _ (by omega)]; exact iT k hk
      · rw [gI_wI, up1_nc _ _ _ (by omega), gI_wI, up1_nc _ _ _ (by omega)]; exact iH q hq
      · rw [gI_wI, gI_wI]
        show _ = kKin (scK a) x y q
        unfold kKin
        have qa := iK q hq
        have qx' := iK x (by omega)
        have qy' := iK y (by omega)
        by_cases qy : q = y
        · subst qy
          rw [up1_eq, rw1_eq, up1_nj _ _ (fun z => xy z.symm), rw1_ne _ _ (fun z => xy z.symm), qa]
        · rw [up1_nj _ _ qy, rw1_ne _ _ qy]
          by_cases qx : q = x
          · subst qx
            rw [up1_eq, rw1_eq, qa]
          · rw [up1_nj _ _ qx, rw1_ne _ _ qx]; exact qa
      · rw [gI_wI, up1_nc _ _ _ (by omega), gI_wI, up1_nc _ _ _ (by omega)]; exact iR m hm
/-- a clause's numbers -/
theorem m194 {h : gd_H} {X : gdX} {a : gdS} {k q0 : Nat} (hb : MB h X) (hS : SK h) (sm : ScM (gI h) a) (ha : scB a ≤ 6 ∧ scN a ≤ 7) (hk : k < 4) (hfull : if k = 0 then scB a < 6 else if k = 1 then scN a < 7 else True) (hw : ltr X q0 = wSc.getD k []) {p : Nat} (hp : p ≤ xn X) {d : Nat} (hd : 8 ≤ d) : SO h (sCl X k a p) (run gd_P0 d 194 [.ref 1231, .int (Int32.ofNat (wv (ltr X q0)))] (mm h p 0)) := by
  obtain ⟨d, rfl⟩ : ∃ e, d = e + 1 := ⟨d - 1, by omega⟩
  have hX : XO X := hb.2.2.2
  have hn6 : xn X ≤ 600 := hX.1
  have hm := hb.1
  have hs2 : SK (mm h p 0) := hS.mm _ _
  obtain ⟨⟨i18, i19⟩, iT, iH, iK, iR⟩ := id sm
  have w22 : run gd_P0 d 191 [.ref 52] (mm h p 0) = _ := m191 hs2 (d := d) (by omega) (j := 22) (by omega)
  have w23 : run gd_P0 d 191 [.ref 54] (mm h p 0) = _ := m191 hs2 (d := d) (by omega) (j := 23) (by omega)
  have w24 : run gd_P0 d 191 [.ref 56] (mm h p 0) = _ := m191 hs2 (d := d) (by omega) (j := 24) (by omega)
  have q22 : (Int32.ofNat (wv (ltr X q0)) = Int32.ofNat (wc (wds.getD 22 []))) = (ltr X q0 = [98, 111, 97, 114, 100]) := wv_eq (j := 22) (by omega)
  have q23 : (Int32.ofNat (wv (ltr X q0)) = Int32.ofNat (wc (wds.getD 23 []))) = (ltr X q0 = [98, 111, 121]) := wv_eq (j := 23) (by omega)
  have q24 : (Int32.ofNat (wv (ltr X q0)) = Int32.ofNat (wc (wds.getD 24 []))) = (ltr X q0 = [107, 105, 110]) := wv_eq (j := 24) (by omega)
  rw [r194, s194_0]
  have k3 : k = 0 ∨ k = 1 ∨ k = 2 ∨ k = 3 := by omega
  rcases k3 with rfl | rfl | rfl | rfl
  · -- two numbers: 0
    have hB : scB a < 6 := hfull
    have ifl : gI h 1231 18 = Int32.ofNat (scB a) := i18
    have eF : ∀ q, gI (mm h q 0) 1231 18 = Int32.ofNat (scB a) := fun q => (mm_j _ _ _ (by omega) (by omega)).trans ifl
    have e2 : (2 : Int32) * Int32.ofNat (scB a) = Int32.ofNat (2 * scB a) := j_mul 2 _
    have gA : ∀ z, z < 2 * 6 → ((31 : Nat) = 31 ∧ ¬ (Int32.ofNat z < 0 ∨ 12 ≤ (Int32.ofNat z).toNatClampNeg)) := fun z hz => ⟨rfl, by rw [j_ix (by omega) (by omega)]; exact trivial⟩
    have sc : sCl X 0 a p = qb (tN X 1 61 p) fun p1 v => qb (tN X 0 10 p1) fun p2 w => .inr (p2, ((scB a + 1, scN a), (rw1 (scT a) (scB a) (Int32.ofNat v), rw1 (scG a) (scB a) (Int32.ofNat w)), a.2.2.1, scK a, scR a)) := rfl
    have fin : ∀ (H : gd_H) (k pl : Nat) (w : Int32), ME h k pl H → gI H 1231 18 = Int32.ofNat (scB a) → SO h (.inl (k, pl)) (go gd_P0 d 194 46 [.ref 1231, .null, .null, .null] [.int w, .int (Int32.ofNat (2 * scB a + 1)), .ref 1234] H) := by
      intro H k pl w me hf
      have hmH := hm.mz me.1.1
      have := (me.sc (a := 1234) (j := 2 * scB a + 1) (v := w) (by omega)).sc (a := 1231) (j := 18) (v := Int32.ofNat (scB a + 1)) (by omega)
      refine ⟨_, ?_, this⟩
      rw [s194_46, m_t10 hmH, m_l10 hmH, if_pos (gA (2 * scB a + 1) (by omega)), if_pos hmH.t, if_pos hmH.t, j_cl (by omega), up1_nc (b := 1231) _ _ _ (by omega), hf, j_s, s194_167, wI_wI, gI_wI]
    rw [sc, w22, gc_v, s194_6, if_pos (q22.mpr hw), gT_mm, gR_mm, if_pos hm.t, if_pos hm.t, if_pos hm.t, eF, e2, m_r10 hm]
    have n1 := m195x hb (d := d) (by omega) hp 0 (l := 1) (hs := 61) (by omega) (by omega) (hi := 60) (fun v hv => hi_lit (n := 60) (by omega) hv)
    have g1 := tN_g (X := X) (lo := 1) (hs := 61) hp
    revert n1 g1
    rcases tN X 1 61 p with ⟨kk, pl⟩ | ⟨p1, v⟩
    · rintro ⟨h', e, me, at'⟩ g1
      have hpl : pl < 100000 := by have := g1.2; omega
      have e : run gd_P0 d 195 [.ref 1231, .int 1, .int 60] (mm h p 0) = _ := e
      have hmH := hm.mz me.1.1
      have me2 := me.sc (a := 1234) (j := 2 * scB a) (v := 0) (by omega)
      have hbs := me2.bs hm hpl
      have hf : gI h' 1231 18 = Int32.ofNat (scB a) := (at'.2.2.2 18 (by omega) (by omega) (by omega) (by omega)).trans ifl
      rw [e, gc_v, s194_26, m_t10 hmH, m_l10 hmH, if_pos (gA (2 * scB a) (by omega)), if_pos hmH.t, if_pos hmH.t, if_pos hmH.t, j_cl (by omega), up1_nc (b := 1231) _ _ _ (by omega), hf, e2, j_s, m_r10 hmH, b195 hbs (by omega), gc_v]
      exact fin _ kk pl 0 me2 (by rw [gI_wI, up1_nc _ _ _ (by omega)]; exact hf)
    intro n1 g1
    obtain ⟨a1, a2, a3, a4⟩ := g1
    have n1 : run gd_P0 d 195 [.ref 1231, .int 1, .int 60] (mm h p 0) = _ := n1
    obtain ⟨z1, hb1⟩ := sc_w hb (a := 1234) (j := 2 * scB a) (v := Int32.ofNat v) (by omega)
    rw [n1, gc_v, s194_26, gT_mm, gR_mm, gL_mm, m_t10 hm, m_l10 hm, if_pos (gA (2 * scB a) (by omega)), if_pos hm.t, if_pos hm.t, if_pos hm.t, j_cl (by omega), up1_nc (b := 1231) _ _ _ (by omega), eF, e2, j_s, m_r10 hm, mm_wa (Or.inl (by omega)), qb_r]
    generalize eH1 : wI h (up1 (gI h) 1234 (2 * scB a) (Int32.ofNat v)) = H1 at *
    have hf1 : gI H1 1231 18 = Int32.ofNat (scB a) := by rw [← eH1, gI_wI, up1_nc _ _ _ (by omega)]; exact ifl
    have n2 := m195x hb1 (d := d) (by omega) a2 0 (l := 0) (hs := 10) (by omega) (by omega) (hi := 9) (fun v hv => hi_lit (n := 9) (by omega) hv)
    have g2 := tN_g (X := X) (lo := 0) (hs := 10) a2
    revert n2 g2
    rcases tN X 0 10 p1 with ⟨kk, pl⟩ | ⟨p2, w⟩
    · rintro ⟨h', e, me, at'⟩ g2
      have e : run gd_P0 d 195 [.ref 1231, .int 0, .int 9] (mm H1 p1 0) = _ := e
      rw [e, gc_v]
      exact fin _ kk pl 0 (me.mz z1) ((at'.2.2.2 18 (by omega) (by omega) (by omega) (by omega)).trans hf1)
    intro n2 g2
    obtain ⟨b1, b2, b3, b4⟩ := g2
    have n2 : run gd_P0 d 195 [.ref 1231, .int 0, .int 9] (mm H1 p1 0) = _ := n2
    have hm1 := hb1.1
    obtain ⟨z2, hb2⟩ := sc_w hb1 (a := 1234) (j := 2 * scB a + 1) (v := Int32.ofNat w) (by omega)
    obtain ⟨z3, hb3⟩ := sc_w hb2 (a := 1231) (j := 18) (v := Int32.ofNat (scB a + 1)) (by omega)
    have eF1 : ∀ q, gI (mm H1 q 0) 1231 18 = Int32.ofNat (scB a) := fun q => (mm_j _ _ _ (by omega) (by omega)).trans hf1
    rw [n2, gc_v, s194_46, gT_mm, gL_mm, m_t10 hm1, m_l10 hm1, if_pos (gA (2 * scB a + 1) (by omega)), if_pos hm1.t, if_pos hm1.t, j_cl (by omega), up1_nc (b := 1231) _ _ _ (by omega), eF1, j_s, s194_167, qb_r]
    refine ⟨_, ?_, z1.trans (z2.trans z3), ⟨hb3.2.1.1.trans hb.2.1.1.symm, hb3.2.1.2.trans hb.2.1.2.symm⟩, ?_⟩
    · rw [← mm_wa (h := wI H1 (up1 (gI H1) 1234 (2 * scB a + 1) (Int32.ofNat w))) (Or.inr (by omega)), ← mm_wa (h := H1) (Or.inl (by omega)), wI_wI, gI_wI]
    · have J : ∀ b, b ≠ 1234 → b ≠ 1231 → gI (wI (wI H1 (up1 (gI H1) 1234 (2 * scB a + 1) (Int32.ofNat w))) (up1 (gI (wI H1 (up1 (gI H1) 1234 (2 * scB a + 1) (Int32.ofNat w)))) 1231 18 (Int32.ofNat (scB a + 1)))) b = gI h b := fun b h1 h2 => by rw [gI_wI, up1_nc _ _ _ h2, gI_wI, up1_nc _ _ _ h1, ← eH1, gI_wI, up1_nc _ _ _ h1]
      have JA : ∀ j, gI (wI (wI H1 (up1 (gI H1) 1234 (2 * scB a + 1) (Int32.ofNat w))) (up1 (gI (wI H1 (up1 (gI H1) 1234 (2 * scB a + 1) (Int32.ofNat w)))) 1231 18 (Int32.ofNat (scB a + 1)))) 1234 j = if j = 2 * scB a + 1 then Int32.ofNat w else if j = 2 * scB a then Int32.ofNat v else gI h 1234 j := by
        intro j
        rw [gI_wI, up1_nc _ _ _ (by omega), gI_wI]
        by_cases y1 : j = 2 * scB a + 1
        · rw [if_pos y1, y1, up1_eq]
        · rw [if_neg y1, up1_nj _ _ y1, ← eH1, gI_wI]
          by_cases y2 : j = 2 * scB a
          · rw [if_pos y2, y2, up1_eq]
          · rw [if_neg y2, up1_nj _ _ y2]
      have JF : ∀ j, j ≠ 18 → gI (wI (wI H1 (up1 (gI H1) 1234 (2 * scB a + 1) (Int32.ofNat w))) (up1 (gI (wI H1 (up1 (gI H1) 1234 (2 * scB a + 1) (Int32.ofNat w)))) 1231 18 (Int32.ofNat (scB a + 1)))) 1231 j = gI h 1231 j := fun j hj => by rw [gI_wI, up1_nj _ _ hj, gI_wI, up1_nc _ _ _ (by omega), ← eH1, gI_wI, up1_nc _ _ _ (by omega)]
      have JN : gI (wI (wI H1 (up1 (gI H1) 1234 (2 * scB a + 1) (Int32.ofNat w))) (up1 (gI (wI H1 (up1 (gI H1) 1234 (2 * scB a + 1) (Int32.ofNat w)))) 1231 18 (Int32.ofNat (scB a + 1)))) 1231 18 = Int32.ofNat (scB a + 1) := by rw [gI_wI, up1_eq]
      refine ⟨⟨JN, (JF 19 (by omega)).trans i19⟩, fun k hk => ?_, fun p hp => ?_, fun p hp => ?_, fun m hm => ?_⟩
      · have hk : k < scB a + 1 := hk
        rw [JA, JA]
        show _ = rw1 (scT a) (scB a) (Int32.ofNat v) k ∧ _ = rw1 (scG a) (scB a) (Int32.ofNat w) k
        by_cases y : k = scB a
        · subst y
          rw [if_neg (by omega), if_pos rfl, if_pos rfl, rw1_eq, rw1_eq]
          exact ⟨rfl, rfl⟩
        · rw [if_neg (by omega), if_neg (by omega), if_neg (by omega), if_neg (by omega), rw1_ne _ _ y, rw1_ne _ _ y]
          exact iT k (by omega)
      · rw [J 1235 (by omega) (by omega)]; exact iH p hp
      · rw [J 1236 (by omega) (by omega)]; exact iK p hp
      · rw [J 1237 (by omega) (by omega)]; exact iR m hm
  · -- two numbers: 1
    have hB : scN a < 7 := hfull
    have ifl : gI h 1231 19 = Int32.ofNat (scN a) := i19
    have eF : ∀ q, gI (mm h q 0) 1231 19 = Int32.ofNat (scN a) := fun q => (mm_j _ _ _ (by omega) (by omega)).trans ifl
    have e2 : (2 : Int32) * Int32.ofNat (scN a) = Int32.ofNat (2 * scN a) := j_mul 2 _
    have gA : ∀ z, z < 2 * 7 → ((31 : Nat) = 31 ∧ ¬ (Int32.ofNat z < 0 ∨ 14 ≤ (Int32.ofNat z).toNatClampNeg)) := fun z hz => ⟨rfl, by rw [j_ix (by omega) (by omega)]; exact trivial⟩
    have sc : sCl X 1 a p = qb (tN X 1 201 p) fun p1 v => qb (tN X 0 10 p1) fun p2 w => .inr (p2, ((scB a, scN a + 1), a.2.1, (rw1 (scH a) (scN a) (Int32.ofNat v), rw1 (scF a) (scN a) (Int32.ofNat w)), scK a, scR a)) := rfl
    have fin : ∀ (H : gd_H) (k pl : Nat) (w : Int32), ME h k pl H → gI H 1231 19 = Int32.ofNat (scN a) → SO h (.inl (k, pl)) (go gd_P0 d 194 107 [.ref 1231, .null, .null, .null] [.int w, .int (Int32.ofNat (2 * scN a + 1)), .ref 1235] H) := by
      intro H k pl w me hf
      have hmH := hm.mz me.1.1
      have := (me.sc (a := 1235) (j := 2 * scN a + 1) (v := w) (by omega)).sc (a := 1231) (j := 19) (v := Int32.ofNat (scN a + 1)) (by omega)
      refine ⟨_, ?_, this⟩
      rw [s194_107, m_t11 hmH, m_l11 hmH, if_pos (gA (2 * scN a + 1) (by omega)), if_pos hmH.t, if_pos hmH.t, j_cl (by omega), up1_nc (b := 1231) _ _ _ (by omega), hf, j_s, s194_167, wI_wI, gI_wI]
    rw [sc, w22, gc_v, s194_6, if_neg (fun z => absurd (hw.symm.trans (q22.mp z)) (by decide)), w23, gc_v, s194_66, if_pos (q23.mpr hw), gT_mm, gR_mm, if_pos hm.t, if_pos hm.t, if_pos hm.t, eF, e2, m_r11 hm]
    have n1 := m195x hb (d := d) (by omega) hp 0 (l := 1) (hs := 201) (by omega) (by omega) (hi := 200) (fun v hv => hi_lit (n := 200) (by omega) hv)
    have g1 := tN_g (X := X) (lo := 1) (hs := 201) hp
    revert n1 g1
    rcases tN X 1 201 p with ⟨kk, pl⟩ | ⟨p1, v⟩
    · rintro ⟨h', e, me, at'⟩ g1
      have hpl : pl < 100000 := by have := g1.2; omega
      have e : run gd_P0 d 195 [.ref 1231, .int 1, .int 200] (mm h p 0) = _ := e
      have hmH := hm.mz me.1.1
      have me2 := me.sc (a := 1235) (j := 2 * scN a) (v := 0) (by omega)
      have hbs := me2.bs hm hpl
      have hf : gI h' 1231 19 = Int32.ofNat (scN a) := (at'.2.2.2 19 (by omega) (by omega) (by omega) (by omega)).trans ifl
      rw [e, gc_v, s194_87, m_t11 hmH, m_l11 hmH, if_pos (gA (2 * scN a) (by omega)), if_pos hmH.t, if_pos hmH.t, if_pos hmH.t, j_cl (by omega), up1_nc (b := 1231) _ _ _ (by omega), hf, e2, j_s, m_r11 hmH, b195 hbs (by omega), gc_v]
      exact fin _ kk pl 0 me2 (by rw [gI_wI, up1_nc _ _ _ (by omega)]; exact hf)
    intro n1 g1
    obtain ⟨a1, a2, a3, a4⟩ := g1
    have n1 : run gd_P0 d 195 [.ref 1231, .int 1, .int 200] (mm h p 0) = _ := n1
    obtain ⟨z1, hb1⟩ := sc_w hb (a := 1235) (j := 2 * scN a) (v := Int32.ofNat v) (by omega)
    rw [n1, gc_v, s194_87, gT_mm, gR_mm, gL_mm, m_t11 hm, m_l11 hm, if_pos (gA (2 * scN a) (by omega)), if_pos hm.t, if_pos hm.t, if_pos hm.t, j_cl (by omega), up1_nc (b := 1231) _ _ _ (by omega), eF, e2, j_s, m_r11 hm, mm_wa (Or.inl (by omega)), qb_r]
    generalize eH1 : wI h (up1 (gI h) 1235 (2 * scN a) (Int32.ofNat v)) = H1 at *
    have hf1 : gI H1 1231 19 = Int32.ofNat (scN a) := by rw [← eH1, gI_wI, up1_nc _ _ _ (by omega)]; exact ifl
    have n2 := m195x hb1 (d := d) (by omega) a2 0 (l := 0) (hs := 10) (by omega) (by omega) (hi := 9) (fun v hv => hi_lit (n := 9) (by omega) hv)
    have g2 := tN_g (X := X) (lo := 0) (hs := 10) a2
    revert n2 g2
    rcases tN X 0 10 p1 with ⟨kk, pl⟩ | ⟨p2, w⟩
    · rintro ⟨h', e, me, at'⟩ g2
      have e : run gd_P0 d 195 [.ref 1231, .int 0, .int 9] (mm H1 p1 0) = _ := e
      rw [e, gc_v]
      exact fin _ kk pl 0 (me.mz z1) ((at'.2.2.2 19 (by omega) (by omega) (by omega) (by omega)).trans hf1)
    intro n2 g2
    obtain ⟨b1, b2, b3, b4⟩ := g2
    have n2 : run gd_P0 d 195 [.ref 1231, .int 0, .int 9] (mm H1 p1 0) = _ := n2
    have hm1 := hb1.1
    obtain ⟨z2, hb2⟩ := sc_w hb1 (a := 1235) (j := 2 * scN a + 1) (v := Int32.ofNat w) (by omega)
    obtain ⟨z3, hb3⟩ := sc_w hb2 (a := 1231) (j := 19) (v := Int32.ofNat (scN a + 1)) (by omega)
    have eF1 : ∀ q, gI (mm H1 q 0) 1231 19 = Int32.ofNat (scN a) := fun q => (mm_j _ _ _ (by omega) (by omega)).trans hf1
    rw [n2, gc_v, s194_107, gT_mm, gL_mm, m_t11 hm1, m_l11 hm1, if_pos (gA (2 * scN a + 1) (by omega)), if_pos hm1.t, if_pos hm1.t, j_cl (by omega), up1_nc (b := 1231) _ _ _ (by omega), eF1, j_s, s194_167, qb_r]
    refine ⟨_, ?_, z1.trans (z2.trans z3), ⟨hb3.2.1.1.trans hb.2.1.1.symm, hb3.2.1.2.trans hb.2.1.2.symm⟩, ?_⟩
    · rw [← mm_wa (h := wI H1 (up1 (gI H1) 1235 (2 * scN a + 1) (Int32.ofNat w))) (Or.inr (by omega)), ← mm_wa (h := H1) (Or.inl (by omega)), wI_wI, gI_wI]
    · have J : ∀ b, b ≠ 1235 → b ≠ 1231 → gI (wI (wI H1 (up1 (gI H1) 1235 (2 * scN a + 1) (Int32.ofNat w))) (up1 (gI (wI H1 (up1 (gI H1) 1235 (2 * scN a + 1) (Int32.ofNat w)))) 1231 19 (Int32.ofNat (scN a + 1)))) b = gI h b := fun b h1 h2 => by rw [gI_wI, up1_nc _ _ _ h2, gI_wI, up1_nc _ _ _ h1, ← eH1, gI_wI, up1_nc _ _ _ h1]
      have JA : ∀ j, gI (wI (wI H1 (up1 (gI H1) 1235 (2 * scN a + 1) (Int32.ofNat w))) (up1 (gI (wI H1 (up1 (gI H1) 1235 (2 * scN a + 1) (Int32.ofNat w)))) 1231 19 (Int32.ofNat (scN a + 1)))) 1235 j = if j = 2 * scN a + 1 then Int32.ofNat w else if j = 2 * scN a then Int32.ofNat v else gI h 1235 j := by
        intro j
        rw [gI_wI, up1_nc _ _ _ (by omega), gI_wI]
        by_cases y1 : j = 2 * scN a + 1
        · rw [if_pos y1, y1, up1_eq]
        · rw [if_neg y1, up1_nj _ _ y1, ← eH1, gI_wI]
          by_cases y2 : j = 2 * scN a
          · rw [if_pos y2, y2, up1_eq]
          · rw [if_neg y2, up1_nj _ _ y2]
      have JF : ∀ j, j ≠ 19 → gI (wI (wI H1 (up1 (gI H1) 1235 (2 * scN a + 1) (Int32.ofNat w))) (up1 (gI (wI H1 (up1 (gI H1) 1235 (2 * scN a + 1) (Int32.ofNat w)))) 1231 19 (Int32.ofNat (scN a + 1)))) 1231 j = gI h 1231 j := fun j hj => by rw [gI_wI, up1_nj _ _ hj, gI_wI, up1_nc _ _ _ (by omega), ← eH1, gI_wI, up1_nc _ _ _ (by omega)]
      have JN : gI (wI (wI H1 (up1 (gI H1) 1235 (2 * scN a + 1) (Int32.ofNat w))) (up1 (gI (wI H1 (up1 (gI H1) 1235 (2 * scN a + 1) (Int32.ofNat w)))) 1231 19 (Int32.ofNat (scN a + 1)))) 1231 19 = Int32.ofNat (scN a + 1) := by rw [gI_wI, up1_eq]
      refine ⟨⟨(JF 18 (by omega)).trans i18, JN⟩, fun k hk => ?_, fun p hp => ?_, fun p hp => ?_, fun m hm => ?_⟩
      · rw [J 1234 (by omega) (by omega)]; exact iT k hk
      · have hp : p < scN a + 1 := hp
        rw [JA, JA]
        show _ = rw1 (scH a) (scN a) (Int32.ofNat v) p ∧ _ = rw1 (scF a) (scN a) (Int32.ofNat w) p
        by_cases y : p = scN a
        · subst y
          rw [if_neg (by omega), if_pos rfl, if_pos rfl, rw1_eq, rw1_eq]
          exact ⟨rfl, rfl⟩
        · rw [if_neg (by omega), if_neg (by omega), if_neg (by omega), if_neg (by omega), rw1_ne _ _ y, rw1_ne _ _ y]
          exact iH p (by omega)
      · rw [J 1236 (by omega) (by omega)]; exact iK p hp
      · rw [J 1237 (by omega) (by omega)]; exact iR m hm
  · -- kin
    rw [w22, gc_v, s194_6, if_neg (fun z => absurd (hw.symm.trans (q22.mp z)) (by decide)), w23, gc_v, s194_66, if_neg (fun z => absurd (hw.symm.trans (q23.mp z)) (by decide)), w24, gc_v, s194_127, if_pos (q24.mpr hw), gT_mm, if_pos hm.t]
    have r := m197 hb sm ha.2 hp (d := d) (by omega)
    revert r
    rcases sCl X 2 a p with ⟨kk, pl⟩ | ⟨p1, b⟩
    · rintro ⟨h', e, me⟩
      exact ⟨h', by rw [e, gc_n, s194_134, s194_167], me⟩
    · rintro ⟨h', e, me⟩
      exact ⟨h', by rw [e, gc_n, s194_134, s194_167], me⟩
  · -- rain
    have sc : sCl X 3 a p = qb (tN X 0 12 p) fun p1 m => qb (tN X 0 10 p1) fun p2 v => .inr (p2, (a.1, a.2.1, a.2.2.1, scK a, rw1 (scR a) m (Int32.ofNat v))) := rfl
    rw [sc, w22, gc_v, s194_6, if_neg (fun z => absurd (hw.symm.trans (q22.mp z)) (by decide)), w23, gc_v, s194_66, if_neg (fun z => absurd (hw.symm.trans (q23.mp z)) (by decide)), w24, gc_v, s194_127, if_neg (fun z => absurd (hw.symm.trans (q24.mp z)) (by decide)), gT_mm, if_pos hm.t]
    have n1 := m195 hb (d := d) (by omega) hp 0 (l := 0) (hs := 12) (by omega) (by omega) (hi := 11) (fun v hv => hi_lit (n := 11) (by omega) hv)
    have g1 := tN_g (X := X) (lo := 0) (hs := 12) hp
    revert n1 g1
    rcases tN X 0 12 p with ⟨kk, pl⟩ | ⟨p1, m⟩
    · rintro ⟨h', e, me⟩ g1
      have e : run gd_P0 d 195 [.ref 1231, .int 0, .int 11] (mm h p 0) = _ := e
      have hbs := me.bs hm (by have := g1.2; omega)
      exact ⟨h', by rw [e, gc_v, s194_144, if_pos hbs.1.t, b195 hbs (by omega), gc_v, s194_152, if_pos hbs.1.t, b185 hbs (by omega), gc_v, s194_157, if_pos rfl, s194_167], me⟩
    intro n1 g1
    obtain ⟨a1, a2, a3, a4⟩ := g1
    have n1 : run gd_P0 d 195 [.ref 1231, .int 0, .int 11] (mm h p 0) = _ := n1
    rw [n1, gc_v, s194_144, gT_mm, if_pos hm.t, qb_r]
    have n2 := m195 hb (d := d) (by omega) a2 0 (l := 0) (hs := 10) (by omega) (by omega) (hi := 9) (fun v hv => hi_lit (n := 9) (by omega) hv)
    have g2 := tN_g (X := X) (lo := 0) (hs := 10) a2
    revert n2 g2
    rcases tN X 0 10 p1 with ⟨kk, pl⟩ | ⟨p2, w⟩
    · rintro ⟨h', e, me⟩ g2
      have e : run gd_P0 d 195 [.ref 1231, .int 0, .int 9] (mm h p1 0) = _ := e
      have hbs := me.bs hm (by have := g2.2; omega)
      exact ⟨h', by rw [e, gc_v, s194_152, if_pos hbs.1.t, b185 hbs (by omega), gc_v, s194_157, if_pos rfl, s194_167], me⟩
    intro n2 g2
    obtain ⟨b1, b2, b3, b4⟩ := g2
    have n2 : run gd_P0 d 195 [.ref 1231, .int 0, .int 9] (mm h p1 0) = _ := n2
    obtain ⟨z1, hb1⟩ := sc_w hb (a := 1237) (j := m) (v := Int32.ofNat w) (by omega)
    refine ⟨wI h (up1 (gI h) 1237 m (Int32.ofNat w)), ?_, z1, ⟨hb1.2.1.1.trans hb.2.1.1.symm, hb1.2.1.2.trans hb.2.1.2.symm⟩, ⟨?_, ?_⟩, fun k hk => ?_, fun p hp => ?_, fun p hp => ?_, fun j hj => ?_⟩
    · rw [n2, gc_v, s194_152, gT_mm, if_pos hm.t, m185 hb (by omega), gc_v, s194_157, if_neg ne_1, gT_mm, gR_mm, gL_mm, if_pos hm.t, m_r13 hm, m_t13 hm, m_l13 hm, if_pos ⟨rfl, by rw [j_ix (by omega) a4]; exact trivial⟩, j_cl (by omega), s194_167, mm_wa (Or.inl (by omega))]
    · rw [gI_wI, up1_nc _ _ _ (by omega)]; exact i18
    · rw [gI_wI, up1_nc _ _ _ (by omega)]; exact i19
    · rw [gI_wI, up1_nc _ _ _ (by omega)]; exact iT k hk
    · rw [gI_wI, up1_nc _ _ _ (by omega)]; exact iH p hp
    · rw [gI_wI, up1_nc _ _ _ (by omega)]; exact iK p hp
    · rw [gI_wI]
      show _ = rw1 (scR a) m (Int32.ofNat w) j
      by_cases z : j = m
      · rw [z, up1_eq, rw1_eq]
      · rw [up1_nj _ _ z, rw1_ne _ _ z]; exact iR j hj

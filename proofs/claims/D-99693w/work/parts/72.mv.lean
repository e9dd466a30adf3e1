/-! ===== THE MODEL's LAW, READ: a value, the whole ===== -/
set_option maxRecDepth 100000
theorem ME.w7 {h h' : gd_H} {k pl : Nat} (e : ME h k pl h') (v : Int32) : ME h k pl (wI h' (up1 (gI h') 1231 7 v)) := ⟨e.1.trans (MZ0.th 7 v (by decide) (by decide)), by rw [gI_wI, up1_nj _ _ (by omega)]; exact e.2.1, by rw [gI_wI, up1_nj _ _ (by omega)]; exact e.2.2⟩
theorem BS.w7 {h : gd_H} (e : BS h) (v : Int32) : BS (wI h (up1 (gI h) 1231 7 v)) := ⟨e.1.wI _, by rw [gI_wI, up1_nj _ _ (by omega)]; exact e.2⟩
/-- one opens -/
theorem m204 {h : gd_H} {X : gdX} (hb : MB h X) {d : Nat} (hd : 2 ≤ d) (p b : Nat) {o : Nat} (ho : o < 6) : run gd_P0 d 204 [.ref 1231, .int (Int32.ofNat b)] (mm h p o) = some (.inl none, mm h (p + b) (o + 1)) := by
  obtain ⟨d, rfl⟩ : ∃ e, d = e + 1 := ⟨d - 1, by omega⟩
  have hm := hb.1
  rw [r204, s204_0, gT_mm, if_pos hm.t, m185 hb (by omega), gc_v, s204_4, if_neg (show ¬ (1 : Int32) = 0 by decide), gT_mm, if_pos hm.t, mm_7, if_neg (by rw [show (6 : Int32) = Int32.ofNat 6 from rfl, j_eq (by omega) (by omega)]; omega), s204_25, gT_mm, if_pos hm.t, m185 hb (by omega), gc_v, s204_29, if_neg (show ¬ (1 : Int32) = 0 by decide), gT_mm, if_pos hm.t, if_pos hm.t, mm_4, j_add, mm_w4, s204_42, gT_mm, if_pos hm.t, if_pos hm.t, mm_7, j_s, mm_w7]
theorem m204n {h : gd_H} {X : gdX} (hb : MB h X) {d : Nat} (hd : 2 ≤ d) {p : Nat} (hp : p ≤ xn X) (b : Int32) : ∃ h', run gd_P0 d 204 [.ref 1231, .int b] (mm h p 6) = some (.inl none, h') ∧ ME h 3 p h' := by
  obtain ⟨d, rfl⟩ : ∃ e, d = e + 1 := ⟨d - 1, by omega⟩
  have hm := hb.1
  have hX : XO X := hb.2.2.2
  have hn6 : xn X ≤ 600 := hX.1
  obtain ⟨h', e1, e2⟩ := m192 hb (d := d) (by omega) p 6 3 p
  have e1 : run gd_P0 d 192 [.ref 1231, .int 3, .int (Int32.ofNat p)] (mm h p 6) = _ := e1
  have hbs := e2.bs hm (by omega)
  refine ⟨_, ?_, e2.w7 (gI h' 1231 7 + 1)⟩
  rw [r204, s204_0, gT_mm, if_pos hm.t, m185 hb (by omega), gc_v, s204_4, if_neg (show ¬ (1 : Int32) = 0 by decide), gT_mm, if_pos hm.t, mm_7, if_pos (show Int32.ofNat 6 = 6 from rfl), if_pos hm.t, if_pos hm.t, mm_4, e1, gc_n, s204_25, if_pos hbs.1.t, b185 hbs (by omega), gc_v, s204_29, if_pos rfl, s204_42, if_pos hbs.1.t, if_pos hbs.1.t]
/-- behind a fault two are read no more -/
def H7 (h : gd_H) : gd_H := wI h (up1 (gI h) 1231 7 (gI h 1231 7 - 1))
theorem b206_31 {h : gd_H} (hb : BS h) {d : Nat} (hd : 2 ≤ d) (k : Int32) : go gd_P0 d 206 31 [.ref 1231, .null, .int k] [] h = some (.inl none, H7 h) := by
  rw [s206_31, if_pos hb.1.t, if_pos hb.1.t, if_pos hb.1.t, b205 (hb.w7 _) hd, gc_n, s206_47]
  rfl
theorem b206_25 {h : gd_H} (hb : BS h) {d : Nat} (hd : 4 ≤ d) (k : Int32) : go gd_P0 d 206 25 [.ref 1231, .null, .int k] [] h = some (.inl none, H7 h) := by
  rw [s206_25, if_pos hb.1.t, b198 hb (by omega), gc_n, b206_31 hb (by omega)]
theorem b206_21 {h : gd_H} (hb : BS h) {d : Nat} (hd : 4 ≤ d) (k : Int32) : go gd_P0 d 206 21 [.ref 1231, .null, .int k] [] h = some (.inl none, H7 h) := by
  rw [s206_21, if_pos hb.1.t, b201 hb (by omega), gc_n, b206_25 hb (by omega)]
theorem b206_15 {h : gd_H} (hb : BS h) {d : Nat} (hd : 4 ≤ d) (k : Int32) : go gd_P0 d 206 15 [.ref 1231, .null, .int k] [] h = some (.inl none, H7 h) := by
  rw [s206_15, if_pos hb.1.t, b198 hb (by omega), gc_n, b206_21 hb (by omega)]
theorem b206_11 {h : gd_H} (hb : BS h) {d : Nat} (hd : 4 ≤ d) (k : Int32) : go gd_P0 d 206 11 [.ref 1231, .null, .int k] [] h = some (.inl none, H7 h) := by
  rw [s206_11, if_pos hb.1.t, b201 hb (by omega), gc_n, b206_15 hb (by omega)]
theorem b206_5 {h : gd_H} (hb : BS h) {d : Nat} (hd : 4 ≤ d) (k w : Int32) : go gd_P0 d 206 5 [.ref 1231, .int w, .int k] [] h = some (.inl none, H7 h) := by
  rw [s206_5, if_pos hb.1.t, b198 hb (by omega), gc_n, b206_11 hb (by omega)]
/-- two in brackets -/
theorem m206 {X : gdX} {o dm : Nat} {S : Nat → gdQ gdK} (hX5 : xn X ≤ 150) (hdm : 4 ≤ dm) (ho : o < 6) (hS1 : KVs X (o + 1) S 201 dm) (hg : ∀ p, p ≤ xn X → QG X p (KG p) (S p)) {d : Nat} (hd : dm + 1 ≤ d) {h : gd_H} {p c bl k : Nat} (hb : MB h X) (hS : SK h) (hc : gI h 1231 27 = Int32.ofNat c) (hp : p + bl ≤ xn X) (hbl : 1 ≤ bl) (hcp : c ≤ p) :
    KO h o c (qb (tS X 91 (p + bl)) fun p1 _ => qb (S p1) fun p2 a => qb (tS X 44 p2) fun p3 _ => qb (S p3) fun p4 b => qb (tS X 93 p4) fun p5 _ => .inr (p5, kBin k a b)) (run gd_P0 d 206 [.ref 1231, .int (Int32.ofNat bl), .int (Int32.ofNat k)] (mm h p o)) := by
  obtain ⟨d, rfl⟩ : ∃ e, d = e + 1 := ⟨d - 1, by omega⟩
  have hm := hb.1
  have hX : XO X := hb.2.2.2
  have hn6 : xn X ≤ 600 := hX.1
  rw [r206, s206_0, gT_mm, if_pos hm.t, m204 hb (by omega) p bl ho, gc_n, s206_5, gT_mm, if_pos hm.t]
  have r1 := m198 hb (d := d) (by omega) hp (o + 1) (c := 91) (by omega) (by omega)
  have q1 := tS_g (X := X) (c := 91) (by decide) hp
  revert r1 q1
  rcases tS X 91 (p + bl) with ⟨kk, pl⟩ | ⟨p1, ⟨⟩⟩
  · rintro ⟨h', e, me⟩ q1
    have e : run gd_P0 d 198 [.ref 1231, .int 91] (mm h (p + bl) (o + 1)) = _ := e
    rw [e, gc_n, b206_11 (me.bs hm (by have := q1.2; omega)) (by omega)]
    exact ⟨_, rfl, me.w7 _⟩
  intro r1 q1
  obtain ⟨a1, a2, -⟩ := q1
  have r1 : run gd_P0 d 198 [.ref 1231, .int 91] (mm h (p + bl) (o + 1)) = _ := r1
  rw [r1, gc_n, s206_11, gT_mm, if_pos hm.t, qb_r]
  have r2 := hS1 d h p1 c (by omega) hb hS hc a2 (by omega)
  have q2 := hg p1 a2
  revert r2 q2
  rcases S p1 with ⟨kk, pl⟩ | ⟨p2, a⟩
  · rintro ⟨h', e, me⟩ q1
    rw [e, gc_n, b206_15 (me.bs hm (by have := q1.2; omega)) (by omega)]
    exact ⟨_, rfl, me.w7 _⟩
  rintro ⟨h2, e2, k2⟩ ⟨b1, b2, b3, b4⟩
  have hb2 := hb.cw k2
  have hS2 := hS.mz k2.mz
  rw [e2, gc_n, s206_15, gT_mm, if_pos hb2.1.t, qb_r]
  have r3 := m198 hb2 (d := d) (by omega) b2 (o + 1) (c := 44) (by omega) (by omega)
  have q3 := tS_g (X := X) (c := 44) (by decide) b2
  revert r3 q3
  rcases tS X 44 p2 with ⟨kk, pl⟩ | ⟨p3, ⟨⟩⟩
  · rintro ⟨h', e, me⟩ q1
    have e : run gd_P0 d 198 [.ref 1231, .int 44] (mm h2 p2 (o + 1)) = _ := e
    rw [e, gc_n, b206_21 (me.bs hb2.1 (by have := q1.2; omega)) (by omega)]
    exact ⟨_, rfl, (me.mz k2.z0).w7 _⟩
  intro r3 q3
  obtain ⟨c1, c2, -⟩ := q3
  have r3 : run gd_P0 d 198 [.ref 1231, .int 44] (mm h2 p2 (o + 1)) = _ := r3
  rw [r3, gc_n, s206_21, gT_mm, if_pos hb2.1.t, qb_r]
  have r4 := hS1 d h2 p3 (c + a.1.length) (by omega) hb2 hS2 k2.c c2 (by omega)
  have q4 := hg p3 c2
  revert r4 q4
  rcases S p3 with ⟨kk, pl⟩ | ⟨p4, b⟩
  · rintro ⟨h', e, me⟩ q1
    rw [e, gc_n, b206_25 (me.bs hb2.1 (by have := q1.2; omega)) (by omega)]
    exact ⟨_, rfl, (me.mz k2.z0).w7 _⟩
  rintro ⟨h4, e4, k4⟩ ⟨d1, d2, d3, d4⟩
  have k24 := k2.trans k4
  have hb4 := hb.cw k24
  rw [e4, gc_n, s206_25, gT_mm, if_pos hb4.1.t, qb_r]
  have r5 := m198 hb4 (d := d) (by omega) d2 (o + 1) (c := 93) (by omega) (by omega)
  have q5 := tS_g (X := X) (c := 93) (by decide) d2
  revert r5 q5
  rcases tS X 93 p4 with ⟨kk, pl⟩ | ⟨p5, ⟨⟩⟩
  · rintro ⟨h', e, me⟩ q1
    have e : run gd_P0 d 198 [.ref 1231, .int 93] (mm h4 p4 (o + 1)) = _ := e
    rw [e, gc_n, b206_31 (me.bs hb4.1 (by have := q1.2; omega)) (by omega)]
    exact ⟨_, rfl, (me.mz k24.z0).w7 _⟩
  intro r5 q5
  obtain ⟨f1, f2, -⟩ := q5
  have r5 : run gd_P0 d 198 [.ref 1231, .int 93] (mm h4 p4 (o + 1)) = _ := r5
  obtain ⟨h5, e5, k5⟩ := m205 hb4 (d := d) (by omega) p5 o k24.c (by rw [List.length_append]; omega) k 0
  have e5 : run gd_P0 d 205 [.ref 1231, .int (Int32.ofNat k), .int 0] (mm h4 p5 o) = _ := e5
  rw [r5, gc_n, s206_31, gT_mm, if_pos hb4.1.t, if_pos hb4.1.t, if_pos hb4.1.t, mm_7, j_dc, mm_w7, e5, gc_n, s206_47]
  exact ⟨h5, rfl, k24.trans k5⟩
/-- which fact stands here -/
theorem m207 {h : gd_H} {X : gdX} (hb : MB h X) (hs : SK h) {d : Nat} (hd : 6 ≤ d) {p : Nat} (hp : p ≤ xn X) (o : Nat) : run gd_P0 d 207 [.ref 1231] (mm h p o) = some (.inl (some (.int (if wix (ltr X (sk X p)) wFa < 8 then Int32.ofNat (wix (ltr X (sk X p)) wFa) else -1))), mm h (sk X p) o) := by
  obtain ⟨d, rfl⟩ : ∃ e, d = e + 1 := ⟨d - 1, by omega⟩
  have hs2 : SK (mm h (sk X p) o) := hs.mm _ _
  have w28 : run gd_P0 d 191 [.ref 64] (mm h (sk X p) o) = _ := m191 hs2 (d := d) (by omega) (j := 28) (by omega)
  have w29 : run gd_P0 d 191 [.ref 66] (mm h (sk X p) o) = _ := m191 hs2 (d := d) (by omega) (j := 29) (by omega)
  have w24 : run gd_P0 d 191 [.ref 56] (mm h (sk X p) o) = _ := m191 hs2 (d := d) (by omega) (j := 24) (by omega)
  have w25 : run gd_P0 d 191 [.ref 58] (mm h (sk X p) o) = _ := m191 hs2 (d := d) (by omega) (j := 25) (by omega)
  have w30 : run gd_P0 d 191 [.ref 68] (mm h (sk X p) o) = _ := m191 hs2 (d := d) (by omega) (j := 30) (by omega)
  have w31 : run gd_P0 d 191 [.ref 70] (mm h (sk X p) o) = _ := m191 hs2 (d := d) (by omega) (j := 31) (by omega)
  have w32 : run gd_P0 d 191 [.ref 72] (mm h (sk X p) o) = _ := m191 hs2 (d := d) (by omega) (j := 32) (by omega)
  have w23 : run gd_P0 d 191 [.ref 54] (mm h (sk X p) o) = _ := m191 hs2 (d := d) (by omega) (j := 23) (by omega)
  rw [r207, s207_0, gT_mm, if_pos hb.1.t, m188 hb (by omega) hp, gc_v, s207_4]
  have q28 : (Int32.ofNat (wv (ltr X (sk X p))) = Int32.ofNat (wc (wds.getD 28 []))) = (ltr X (sk X p) = [102, 111, 111, 100]) := wv_eq (j := 28) (by omega)
  rw [w28, gc_v, s207_12]
  simp only [q28]
  by_cases x0 : ltr X (sk X p) = [102, 111, 111, 100]
  · have hk : wix (ltr X (sk X p)) wFa = 0 := by unfold wFa; rw [wix, if_pos x0]
    rw [if_pos x0, hk, if_pos (by omega), s207_117]
    rfl
  rw [if_neg x0]
  have q29 : (Int32.ofNat (wv (ltr X (sk X p))) = Int32.ofNat (wc (wds.getD 29 []))) = (ltr X (sk X p) = [104, 105, 103, 104]) := wv_eq (j := 29) (by omega)
  rw [w29, gc_v, s207_26]
  simp only [q29]
  by_cases x1 : ltr X (sk X p) = [104, 105, 103, 104]
  · have hk : wix (ltr X (sk X p)) wFa = 1 := by unfold wFa; rw [wix, if_neg x0, wix, if_pos x1]
    rw [if_pos x1, hk, if_pos (by omega), s207_117]
    rfl
  rw [if_neg x1]
  have q24 : (Int32.ofNat (wv (ltr X (sk X p))) = Int32.ofNat (wc (wds.getD 24 []))) = (ltr X (sk X p) = [107, 105, 110]) := wv_eq (j := 24) (by omega)
  rw [w24, gc_v, s207_39]
  simp only [q24]
  by_cases x2 : ltr X (sk X p) = [107, 105, 110]
  · have hk : wix (ltr X (sk X p)) wFa = 2 := by unfold wFa; rw [wix, if_neg x0, wix, if_neg x1, wix, if_pos x2]
    rw [if_pos x2, hk, if_pos (by omega), s207_117]
    rfl
  rw [if_neg x2]
  have q25 : (Int32.ofNat (wv (ltr X (sk X p))) = Int32.ofNat (wc (wds.getD 25 []))) = (ltr X (sk X p) = [114, 97, 105, 110]) := wv_eq (j := 25) (by omega)
  rw [w25, gc_v, s207_52]
  simp only [q25]
  by_cases x3 : ltr X (sk X p) = [114, 97, 105, 110]
  · have hk : wix (ltr X (sk X p)) wFa = 3 := by unfold wFa; rw [wix, if_neg x0, wix, if_neg x1, wix, if_neg x2, wix, if_pos x3]
    rw [if_pos x3, hk, if_pos (by omega), s207_117]
    rfl
  rw [if_neg x3]
  have q30 : (Int32.ofNat (wv (ltr X (sk X p))) = Int32.ofNat (wc (wds.getD 30 []))) = (ltr X (sk X p) = [103, 97, 105, 110]) := wv_eq (j := 30) (by omega)
  rw [w30, gc_v, s207_66]
  simp only [q30]
  by_cases x4 : ltr X (sk X p) = [103, 97, 105, 110]
  · have hk : wix (ltr X (sk X p)) wFa = 4 := by unfold wFa; rw [wix, if_neg x0, wix, if_neg x1, wix, if_neg x2, wix, if_neg x3, wix, if_pos x4]
    rw [if_pos x4, hk, if_pos (by omega), s207_117]
    rfl
  rw [if_neg x4]
  have q31 : (Int32.ofNat (wv (ltr X (sk X p))) = Int32.ofNat (wc (wds.getD 31 []))) = (ltr X (sk X p) = [109, 111, 110, 116, 104]) := wv_eq (j := 31) (by omega)
  rw [w31, gc_v, s207_80]
  simp only [q31]
  by_cases x5 : ltr X (sk X p) = [109, 111, 110, 116, 104]
  · have hk : wix (ltr X (sk X p)) wFa = 5 := by unfold wFa; rw [wix, if_neg x0, wix, if_neg x1, wix, if_neg x2, wix, if_neg x3, wix, if_neg x4, wix, if_pos x5]
    rw [if_pos x5, hk, if_pos (by omega), s207_117]
    rfl
  rw [if_neg x5]
  have q32 : (Int32.ofNat (wv (ltr X (sk X p))) = Int32.ofNat (wc (wds.getD 32 []))) = (ltr X (sk X p) = [100, 111, 111, 114]) := wv_eq (j := 32) (by omega)
  rw [w32, gc_v, s207_94]
  simp only [q32]
  by_cases x6 : ltr X (sk X p) = [100, 111, 111, 114]
  · have hk : wix (ltr X (sk X p)) wFa = 6 := by unfold wFa; rw [wix, if_neg x0, wix, if_neg x1, wix, if_neg x2, wix, if_neg x3, wix, if_neg x4, wix, if_neg x5, wix, if_pos x6]
    rw [if_pos x6, hk, if_pos (by omega), s207_117]
    rfl
  rw [if_neg x6]
  have q23 : (Int32.ofNat (wv (ltr X (sk X p))) = Int32.ofNat (wc (wds.getD 23 []))) = (ltr X (sk X p) = [98, 111, 121]) := wv_eq (j := 23) (by omega)
  rw [w23, gc_v, s207_108]
  simp only [q23]
  by_cases x7 : ltr X (sk X p) = [98, 111, 121]
  · have hk : wix (ltr X (sk X p)) wFa = 7 := by unfold wFa; rw [wix, if_neg x0, wix, if_neg x1, wix, if_neg x2, wix, if_neg x3, wix, if_neg x4, wix, if_neg x5, wix, if_neg x6, wix, if_pos x7]
    rw [if_pos x7, hk, if_pos (by omega), s207_117]
    rfl
  rw [if_neg x7]
  have hk : wix (ltr X (sk X p)) wFa = 8 := by unfold wFa; rw [wix, if_neg x0, wix, if_neg x1, wix, if_neg x2, wix, if_neg x3, wix, if_neg x4, wix, if_neg x5, wix, if_neg x6, wix, if_neg x7, wix]
  rw [hk, if_neg (by omega), s207_117]
theorem ltr_w5 {X : gdX} {q : Nat} {w : List Nat} (h : ltr X q = w) : we X q = q + w.length := by rw [← h, ltr_len]
/-- a value -/
theorem msV {X : gdX} {o dm : Nat} {big : Bool} {S : Nat → gdQ gdK} (hX5 : xn X ≤ 150) (hdm : 6 ≤ dm) (ho : big = false → o = 6) (hS1 : big = true → o < 6 ∧ KVs X (o + 1) S 201 dm ∧ ∀ p, p ≤ xn X → QG X p (KG p) (S p)) : KVs X o (lUb X big S) 203 (dm + 2) := by
  intro d h p c hd hb hS hc hp hcp
  obtain ⟨d, rfl⟩ : ∃ e, d = e + 1 := ⟨d - 1, by omega⟩
  have hm := hb.1
  have hX : XO X := hb.2.2.2
  have hn6 : xn X ≤ 600 := hX.1
  have g1 := sk_ge X p
  have g2 := sk_le hp
  have sq := sk_sk hp
  have gl := ltr_len X (sk X p)
  have gw := we_le g2
  have here := m187 hb (d := d) (by omega) g2 o
  rw [sq] at here
  have word := m188 hb (d := d) (by omega) g2 o
  rw [sq] at word
  have hs2 : SK (mm h (sk X p) o) := hS.mm _ _
  rw [r203, s203_0, gT_mm, if_pos hm.t, m185 hb (by omega), gc_v, s203_4, if_neg (show ¬ (1 : Int32) = 0 by decide), gT_mm, if_pos hm.t, m187 hb (by omega) hp, gc_v, s203_12]
  have e40 : (mv X (sk X p) = 40) = (ch X (sk X p) = 40) := mv_eq hX _ (c := 40) (by omega) (by omega)
  simp only [e40]
  have nw : sml (ch X (sk X p)) = false → ¬ (ltr X (sk X p) = wLe ∨ ltr X (sk X p) = wMo) ∧ ¬ wix (ltr X (sk X p)) wFa < 8 := by
    intro z
    rw [ltr_no z]
    exact ⟨by decide, by decide⟩
  by_cases c40 : ch X (sk X p) = 40
  · rw [if_pos c40, gT_mm, if_pos hm.t]
    unfold lUb
    rw [if_neg (nw (by rw [c40]; decide)).1, if_pos c40]
    have hq := ch_lt (X := X) (q := sk X p) (by omega)
    cases big with
    | false =>
      rw [if_neg (by decide), ho rfl]
      obtain ⟨h', e, me⟩ := m204n hb (d := d) (by omega) g2 1
      have hbs := me.bs hm (by omega)
      have hb7 := hbs.w7 (gI h' 1231 7 - 1)
      rw [e, gc_n, s203_22, if_pos hbs.1.t, b201 hbs (by omega), gc_n, s203_26, if_pos hbs.1.t, b198 hbs (by omega), gc_n, s203_32, if_pos hbs.1.t, if_pos hbs.1.t, s203_154]
      exact ⟨_, rfl, me.w7 _⟩
    | true =>
      obtain ⟨o6, hS1, hg⟩ := hS1 rfl
      have e1 : run gd_P0 d 204 [.ref 1231, .int 1] (mm h (sk X p) o) = _ := m204 hb (d := d) (by omega) (sk X p) 1 o6
      rw [if_pos rfl, e1, gc_n, s203_22, gT_mm, if_pos hm.t]
      have r2 := hS1 d h (sk X p + 1) c (by omega) hb hS hc (by omega) (by omega)
      have q2 := hg (sk X p + 1) (by omega)
      revert r2 q2
      rcases S (sk X p + 1) with ⟨kk, pl⟩ | ⟨p2, a⟩
      · rintro ⟨h', e, me⟩ q1
        have hbs := me.bs hm (by have := q1.2; omega)
        rw [e, gc_n, s203_26, if_pos hbs.1.t, b198 hbs (by omega), gc_n, s203_32, if_pos hbs.1.t, if_pos hbs.1.t, s203_154]
        exact ⟨_, rfl, me.w7 _⟩
      rintro ⟨h2, e2, k2⟩ ⟨b1, b2, b3, b4⟩
      have hb2 := hb.cw k2
      rw [e2, gc_n, s203_26, gT_mm, if_pos hb2.1.t, qb_r]
      have r3 := m198 hb2 (d := d) (by omega) b2 (o + 1) (c := 41) (by omega) (by omega)
      have q3 := tS_g (X := X) (c := 41) (by decide) b2
      revert r3 q3
      rcases tS X 41 p2 with ⟨kk, pl⟩ | ⟨p3, ⟨⟩⟩
      · rintro ⟨h', e, me⟩ q1
        have e : run gd_P0 d 198 [.ref 1231, .int 41] (mm h2 p2 (o + 1)) = _ := e
        have hbs := me.bs hb2.1 (by have := q1.2; omega)
        rw [e, gc_n, s203_32, if_pos hbs.1.t, if_pos hbs.1.t, s203_154]
        exact ⟨_, rfl, (me.mz k2.z0).w7 _⟩
      intro r3 q3
      have r3 : run gd_P0 d 198 [.ref 1231, .int 41] (mm h2 p2 (o + 1)) = _ := r3
      rw [r3, gc_n, s203_32, gT_mm, if_pos hb2.1.t, if_pos hb2.1.t, mm_7, j_dc, mm_w7, s203_154]
      exact ⟨h2, rfl, k2⟩
  rw [if_neg c40, gT_mm, if_pos hm.t, here, gc_v, s203_49, m196v hX (by omega), gc_v, s203_52]
  by_cases cd : dgt (ch X (sk X p)) = true
  · have hns : sml (ch X (sk X p)) = false := by
      have := of_decide_eq_true cd
      exact decide_eq_false (by omega)
    rw [if_pos cd, if_neg (show ¬ (1 : Int32) = 0 by decide), gT_mm, if_pos hm.t]
    unfold lUb
    rw [if_neg (nw hns).1, if_neg c40, if_neg (nw hns).2]
    have r := m195 hb (d := d) (by omega) g2 o (l := 0) (hs := 1000) (by omega) (by omega) (hi := 999) (fun v hv => hi_lit (n := 999) (by omega) hv)
    have q := tN_g (X := X) (lo := 0) (hs := 1000) hp
    rw [tN_sk hp] at r
    revert r q
    rcases tN X 0 1000 p with ⟨kk, pl⟩ | ⟨p', v⟩
    · rintro ⟨h', e, me⟩ q1
      have e : run gd_P0 d 195 [.ref 1231, .int 0, .int 999] (mm h (sk X p) o) = _ := e
      have hbs := me.bs hm (by have := q1.2; omega)
      rw [e, gc_v, s203_65, if_pos hbs.1.t, b205 hbs (by omega), gc_n, s203_68, s203_154]
      exact ⟨h', rfl, me⟩
    intro r q
    obtain ⟨q1, q2, q3, q4⟩ := q
    have r : run gd_P0 d 195 [.ref 1231, .int 0, .int 999] (mm h (sk X p) o) = _ := r
    obtain ⟨h3, e3, k3⟩ := m205 hb (d := d) (by omega) p' o hc (by omega) 0 v
    have e3 : run gd_P0 d 205 [.ref 1231, .int 0, .int (Int32.ofNat v)] (mm h p' o) = _ := e3
    rw [r, gc_v, s203_65, gT_mm, if_pos hm.t, e3, gc_n, s203_68, s203_154]
    exact ⟨h3, rfl, k3⟩
  have w26 : run gd_P0 d 191 [.ref 60] (mm h (sk X p) o) = _ := m191 hs2 (d := d) (by omega) (j := 26) (by omega)
  have w27 : run gd_P0 d 191 [.ref 62] (mm h (sk X p) o) = _ := m191 hs2 (d := d) (by omega) (j := 27) (by omega)
  have e26 : (Int32.ofNat (wv (ltr X (sk X p))) = Int32.ofNat (wc (wds.getD 26 []))) = (ltr X (sk X p) = wLe) := wv_eq (j := 26) (by omega)
  have e27 : (Int32.ofNat (wv (ltr X (sk X p))) = Int32.ofNat (wc (wds.getD 27 []))) = (ltr X (sk X p) = wMo) := wv_eq (j := 27) (by omega)
  rw [if_neg cd, if_pos rfl, gT_mm, if_pos hm.t, word, gc_v, s203_75, w26, gc_v, s203_81]
  simp only [e26]
  have two : ∀ (k bl pc : Nat), (ltr X (sk X p)).length = bl → 1 ≤ bl → KO h o c (if big = true then qb (tS X 91 (sk X p + bl)) fun p1 _ => qb (S p1) fun p2 a => qb (tS X 44 p2) fun p3 _ => qb (S p3) fun p4 b => qb (tS X 93 p4) fun p5 _ => .inr (p5, kBin k a b) else .inl (3, sk X p)) (run gd_P0 d 206 [.ref 1231, .int (Int32.ofNat bl), .int (Int32.ofNat k)] (mm h (sk X p) o)) := by
    intro k bl pc hbl hbl1
    cases big with
    | false =>
      rw [if_neg (by decide), ho rfl]
      obtain ⟨d, rfl⟩ : ∃ e, d = e + 1 := ⟨d - 1, by omega⟩
      obtain ⟨h', e, me⟩ := m204n hb (d := d) (by omega) g2 (Int32.ofNat bl)
      have hbs := me.bs hm (by omega)
      rw [r206, s206_0, gT_mm, if_pos hm.t, e, gc_n, b206_5 hbs (by omega)]
      exact ⟨_, rfl, me.w7 _⟩
    | true =>
      obtain ⟨o6, hS1, hg⟩ := hS1 rfl
      rw [if_pos rfl]
      exact m206 hX5 (by omega) o6 hS1 hg (by omega) hb hS hc (by omega) hbl1 (by omega)
  by_cases cL : ltr X (sk X p) = wLe
  · have t := two 6 5 0 (by rw [cL]; rfl) (by omega)
    have t : KO h o c _ (run gd_P0 d 206 [.ref 1231, .int 5, .int 6] (mm h (sk X p) o)) := t
    rw [if_pos cL, gT_mm, if_pos hm.t]
    unfold lUb
    rw [if_pos (Or.inl cL), if_pos cL, show (ltr X (sk X p)).length = 5 by rw [cL]; rfl]
    revert t
    rcases (if big = true then qb (tS X 91 (sk X p + 5)) fun p1 _ => qb (S p1) fun p2 a => qb (tS X 44 p2) fun p3 _ => qb (S p3) fun p4 b => qb (tS X 93 p4) fun p5 _ => .inr (p5, kBin 6 a b) else .inl (3, sk X p)) with ⟨kk, pl⟩ | ⟨p', a⟩
    · rintro ⟨h', e, me⟩
      rw [e, gc_n, s203_91, s203_154]
      exact ⟨h', rfl, me⟩
    · rintro ⟨h', e, me⟩
      rw [e, gc_n, s203_91, s203_154]
      exact ⟨h', rfl, me⟩
  rw [if_neg cL, gT_mm, if_pos hm.t, word, gc_v, s203_98, w27, gc_v, s203_104]
  simp only [e27]
  by_cases cM : ltr X (sk X p) = wMo
  · have t := two 7 4 0 (by rw [cM]; rfl) (by omega)
    have t : KO h o c _ (run gd_P0 d 206 [.ref 1231, .int 4, .int 7] (mm h (sk X p) o)) := t
    rw [if_pos cM, gT_mm, if_pos hm.t]
    unfold lUb
    rw [if_pos (Or.inr cM), if_neg cL, show (ltr X (sk X p)).length = 4 by rw [cM]; rfl]
    revert t
    rcases (if big = true then qb (tS X 91 (sk X p + 4)) fun p1 _ => qb (S p1) fun p2 a => qb (tS X 44 p2) fun p3 _ => qb (S p3) fun p4 b => qb (tS X 93 p4) fun p5 _ => .inr (p5, kBin 7 a b) else .inl (3, sk X p)) with ⟨kk, pl⟩ | ⟨p', a⟩
    · rintro ⟨h', e, me⟩
      rw [e, gc_n, s203_114, s203_154]
      exact ⟨h', rfl, me⟩
    · rintro ⟨h', e, me⟩
      rw [e, gc_n, s203_114, s203_154]
      exact ⟨h', rfl, me⟩
  have e207 := m207 hb hS (d := d) (by omega) g2 o
  rw [sq] at e207
  rw [if_neg cM, gT_mm, if_pos hm.t, e207, gc_v, s203_121]
  unfold lUb
  rw [if_neg (fun y => y.elim cL cM), if_neg c40]
  by_cases c8 : wix (ltr X (sk X p)) wFa < 8
  · have hne : ltr X (sk X p) ≠ [] := fun e => by rw [e] at c8; exact absurd c8 (by decide)
    have hne2 := ltr_ne hne
    obtain ⟨h3, e3, k3⟩ := m205 hb (d := d) (by omega) (we X (sk X p)) o hc (by omega) 1 (wix (ltr X (sk X p)) wFa)
    have e3 : run gd_P0 d 205 [.ref 1231, .int 1, .int (Int32.ofNat (wix (ltr X (sk X p)) wFa))] (mm h (we X (sk X p)) o) = _ := e3
    rw [if_pos c8, if_pos c8, if_neg (by rw [j_m1 (by omega)]; exact fun z => z), s203_136, gT_mm, if_pos hm.t, m185 hb (by omega), gc_v, s203_140, if_neg (show ¬ (1 : Int32) = 0 by decide), gT_mm, if_pos hm.t, m193 hb (by omega) g2, gc_n, s203_148, gT_mm, if_pos hm.t, e3, gc_n, s203_154, gl]
    exact ⟨h3, rfl, k3⟩
  · obtain ⟨h', e1, me⟩ := m192 hb (d := d) (by omega) (sk X p) o 1 (sk X p)
    have e1 : run gd_P0 d 192 [.ref 1231, .int 1, .int (Int32.ofNat (sk X p))] (mm h (sk X p) o) = _ := e1
    have hbs := me.bs hm (by omega)
    have et : tN X 0 1000 p = .inl (1, sk X p) := by unfold tN; rw [if_neg cd]
    rw [if_neg c8, if_neg c8, et, if_pos rfl, gT_mm, if_pos hm.t, if_pos hm.t, mm_4, e1, gc_n, s203_136, if_pos hbs.1.t, b185 hbs (by omega), gc_v, s203_140, if_pos rfl]
    exact ⟨h', rfl, me⟩
theorem msU {X : gdX} (hX5 : xn X ≤ 150) : ∀ m, m ≤ 6 → KVs X (6 - m) (lUn X m) 203 (9 * m + 8)
  | 0, _ => by
    rw [lUn_0]
    exact msV (o := 6) (dm := 6) hX5 (by omega) (fun _ => rfl) (fun e => by cases e)
  | m + 1, hm => by
    rw [lUn_s]
    have ih := msU hX5 m (by omega)
    have g := fun p hp => lUn_g (X := X) m (p := p) hp
    have i1 := msP hX5 (by omega) ih g
    have i2 := msS hX5 (by omega) i1 (fun p hp => lPr_g g hp)
    have e : 6 - (m + 1) + 1 = 6 - m := by omega
    have i3 : KVs X (6 - (m + 1) + 1) (lSu X (lUn X m)) 201 (9 * m + 8 + 1 + 1) := by rw [e]; exact i2
    intro d h p c hd hb hS hc hp hcp
    exact msV hX5 (by omega) (fun e => by cases e) (fun _ => ⟨by omega, i3, fun p hp => lSu_g g hp⟩) d h p c (by omega) hb hS hc hp hcp
theorem msSu {X : gdX} (hX5 : xn X ≤ 150) : KVs X 0 (lSu X (lUn X 6)) 201 70 := by
  have ih := msU hX5 6 (by omega)
  have g := fun p hp => lUn_g (X := X) 6 (p := p) hp
  have i1 := msP hX5 (by omega) ih g
  have i2 := msS hX5 (by omega) i1 (fun p hp => lPr_g g hp)
  intro d h p c hd hb hS hc hp hcp
  exact i2 d h p c (by omega) hb hS hc hp hcp

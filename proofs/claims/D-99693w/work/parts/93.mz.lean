/-! ===== WORK: the model reads a step ===== -/
set_option maxRecDepth 100000
def EM (h : gd_H) (E : gdE) : Prop := (gI h 1231 20 = Int32.ofNat (eB E) ∧ gI h 1231 21 = Int32.ofNat (eN E)) ∧ eB E ≤ 6 ∧ eN E ≤ 7
theorem EM.vw {h h' : gd_H} {E : gdE} {c : Nat} {cs : List (Nat × Nat × Nat)} (e : EM h E) (w : VWc c cs h h') : EM h' E := ⟨⟨(w.j (by omega)).trans e.1.1, (w.j (by omega)).trans e.1.2⟩, e.2⟩
def MYO (h : gd_H) (o c : Nat) : gdQ gdY → Option gd_O → Prop
  | .inl (k, pl), out => ∃ h', out = some (.inl none, h') ∧ ME h k pl h'
  | .inr (p', a), out => ∃ h', out = some (.inl none, mm h' p' o) ∧ VWc c a.1 h h'
def MYs (X : gdX) (E : gdE) (o : Nat) (u : Nat → gdQ gdY) (dm : Nat) : Prop := ∀ (d : Nat) (h : gd_H) (p c : Nat), dm ≤ d → MB h X → SK h → EM h E → gI h 1231 32 = Int32.ofNat (3 * c) → p ≤ xn X → 4 * c ≤ p → MYO h o c (u p) (run gd_P0 d 209 [.ref 1231] (mm h p o))
/-- an again's -/
def MAO (X : gdX) (h : gd_H) (o c d : Nat) : gdQ gdY → Option gd_O → Prop
  | .inl (k, pl), out => ∃ h', out = go gd_P0 d 209 338 [.ref 1231, .null, .null, .null] [] h' ∧ ME h k pl h' ∧ pl ≤ xn X
  | .inr (p', a), out => ∃ h', out = go gd_P0 d 209 338 [.ref 1231, .null, .null, .null] [] (mm h' p' o) ∧ VWc c a.1 h h' ∧ p' ≤ xn X
def MAs (X : gdX) (E : gdE) (o : Nat) (u : Nat → gdQ gdY) (dm : Nat) : Prop := ∀ (d : Nat) (h : gd_H) (p c : Nat), dm ≤ d → MB h X → SK h → EM h E → gI h 1231 32 = Int32.ofNat (3 * c) → p ≤ xn X → 4 * c + 5 ≤ p → MAO X h o c d (u p) (go gd_P0 d 209 241 [.ref 1231, .null, .null, .null] [] (mm h p (o + 1)))
theorem bad338 {h : gd_H} (hb : BS h) {d : Nat} (hd : 2 ≤ d) : go gd_P0 d 209 338 [.ref 1231, .null, .null, .null] [] h = some (.inl none, h) := by
  rw [s209_338, if_pos hb.1.t, b198 hb hd, gc_n, s209_344]
theorem bad291 {h h' : gd_H} {k pl : Nat} (hm : MS h) (me : ME h k pl h') (hp : pl < 100000) {d : Nat} (hd : 2 ≤ d) (v3 : Int32) : ∃ h2, go gd_P0 d 209 291 [.ref 1231, .null, .null, .int v3] [] h' = go gd_P0 d 209 338 [.ref 1231, .null, .null, .null] [] h2 ∧ ME h k pl h2 := by
  have hb := me.bs hm hp
  have me2 : ME h k pl (wI h' (up1 (gI h') 1231 7 (gI h' 1231 7 - 1))) := ⟨me.1.trans (MZ0.th 7 _ (by decide) (by decide)), by rw [gI_wI, up1_nj _ _ (by omega)]; exact me.2.1, by rw [gI_wI, up1_nj _ _ (by omega)]; exact me.2.2⟩
  have hb2 := me2.bs hm hp
  refine ⟨_, ?_, me2⟩
  rw [s209_291, if_pos hb.1.t, b198 hb hd, gc_n, s209_297, if_pos hb.1.t, if_pos hb.1.t, if_pos hb.1.t, b185 hb2 (by omega), gc_v, s209_311, if_pos rfl, s209_326]
theorem bad268 {h h' : gd_H} {k pl : Nat} (hm : MS h) (me : ME h k pl h') (hp : pl < 100000) {d : Nat} (hd : 2 ≤ d) (v3 : Int32) (w1 w2 : Value) : ∃ h2, go gd_P0 d 209 268 [.ref 1231, w1, w2, .int v3] [] h' = go gd_P0 d 209 338 [.ref 1231, .null, .null, .null] [] h2 ∧ ME h k pl h2 := by
  have hb := me.bs hm hp
  obtain ⟨h2, e, m2⟩ := bad291 hm me hp hd v3
  exact ⟨h2, by rw [s209_268, if_pos hb.1.t, b185 hb (by omega), gc_v, s209_272, if_pos rfl]; exact e, m2⟩
theorem bad255 {h h' : gd_H} {k pl : Nat} (hm : MS h) (me : ME h k pl h') (hp : pl < 100000) {d : Nat} (hd : 2 ≤ d) (v2 : Int32) (w1 w3 : Value) : ∃ h2, go gd_P0 d 209 255 [.ref 1231, w1, .int v2, w3] [] h' = go gd_P0 d 209 338 [.ref 1231, .null, .null, .null] [] h2 ∧ ME h k pl h2 := by
  have hb := me.bs hm hp
  obtain ⟨h2, e, m2⟩ := bad268 hm me hp hd (gI h' 1231 32) .null (.int v2)
  exact ⟨h2, by rw [s209_255, if_pos hb.1.t, if_pos hb.1.t, b210 hb (by omega), gc_n]; exact e, m2⟩
theorem bad248 {h h' : gd_H} {k pl : Nat} (hm : MS h) (me : ME h k pl h') (hp : pl < 100000) {d : Nat} (hd : 2 ≤ d) (v2 : Int32) (w1 w2 w3 : Value) : ∃ h2, go gd_P0 d 209 248 [.ref 1231, w1, w2, w3] [.int v2] h' = go gd_P0 d 209 338 [.ref 1231, .null, .null, .null] [] h2 ∧ ME h k pl h2 := by
  have hb := me.bs hm hp
  obtain ⟨h2, e, m2⟩ := bad255 hm me hp hd v2 .null .null
  exact ⟨h2, by rw [s209_248, if_pos hb.1.t, b198 hb (by omega), gc_n]; exact e, m2⟩
theorem bad241 {h h' : gd_H} {k pl : Nat} (hm : MS h) (me : ME h k pl h') (hp : pl < 100000) {d : Nat} (hd : 2 ≤ d) (w1 w2 w3 : Value) : ∃ h2, go gd_P0 d 209 241 [.ref 1231, w1, w2, w3] [] h' = go gd_P0 d 209 338 [.ref 1231, .null, .null, .null] [] h2 ∧ ME h k pl h2 := by
  have hb := me.bs hm hp
  obtain ⟨h2, e, m2⟩ := bad248 hm me hp hd 0 .null .null .null
  exact ⟨h2, by rw [s209_241, if_pos hb.1.t, b195 hb (by omega), gc_v]; exact e, m2⟩
/-- the step's end -/
theorem t338 {h h2 : gd_H} {X : gdX} {o c p1 : Nat} {a : gdY} (hb : MB h X) (w : VWc c a.1 h h2) (hp1 : p1 ≤ xn X) {d : Nat} (hd : 2 ≤ d) : MYO h o c (qb (tS X 59 p1) fun p2 _ => .inr (p2, a)) (go gd_P0 d 209 338 [.ref 1231, .null, .null, .null] [] (mm h2 p1 o)) := by
  have hb2 := hb.vw w
  have r := m198 hb2 hd hp1 o (c := 59) (by omega) (by omega)
  rw [s209_338, gT_mm, if_pos hb2.1.t]
  revert r
  rcases tS X 59 p1 with ⟨k, pl⟩ | ⟨p2, ⟨⟩⟩
  · rintro ⟨h', e, me⟩
    have e : run gd_P0 d 198 [.ref 1231, .int 59] (mm h2 p1 o) = _ := e
    exact ⟨h', by rw [e, gc_n, s209_344], me.mz w.z0⟩
  · intro e
    have e : run gd_P0 d 198 [.ref 1231, .int 59] (mm h2 p1 o) = _ := e
    exact ⟨h2, by rw [e, gc_n, s209_344], w⟩
/-- one number -/
theorem t94 {h : gd_H} {X : gdX} {E : gdE} {o c r k : Nat} (hb : MB h X) (hE : EM h E) (hc : gI h 1231 32 = Int32.ofNat (3 * c)) (hc2 : c < 50) (hr : r ≤ xn X) (hk : k = 0 ∨ k = 4 ∨ k = 5) {d : Nat} (hd : 3 ≤ d) (w1 w2 w3 : Value) : MYO h o c (qb (qb (tN X 0 (eN E) r) fun p1 v => .inr (p1, yOne E k v 0)) fun p1 b => qb (tS X 59 p1) fun p2 _ => .inr (p2, b)) (go gd_P0 d 209 94 [.ref 1231, w1, w2, w3] [.int (Int32.ofNat k), .ref 1231] (mm h r o)) := by
  have hX : XO X := hb.2.2.2
  have hn6 : xn X ≤ 600 := hX.1
  have n := m195 hb (d := d) (by omega) hr o (l := 0) (hs := eN E) (by omega) (by have := hE.2.2; omega) (hi := Int32.ofNat (eN E) - 1) (fun v hv => hi_ok (by have := hE.2.2; omega) hv)
  have g := tN_g (X := X) (lo := 0) (hs := eN E) hr
  rw [s209_94, gT_mm, if_pos hb.1.t, if_pos hb.1.t, mm_j h r o (by omega) (by omega), hE.1.2]
  revert n g
  rcases tN X 0 (eN E) r with ⟨kk, pl⟩ | ⟨p1, v⟩
  · rintro ⟨h', e, me⟩ g
    have e : run gd_P0 d 195 [.ref 1231, .int 0, .int (Int32.ofNat (eN E) - 1)] (mm h r o) = _ := e
    have hbs := me.bs hb.1 (by have := g.2; omega)
    exact ⟨h', by rw [e, gc_v, s209_105, if_pos hbs.1.t, b210 hbs (by omega), gc_n, s209_109, bad338 hbs (by omega)], me⟩
  · intro e g
    have e : run gd_P0 d 195 [.ref 1231, .int 0, .int (Int32.ofNat (eN E) - 1)] (mm h r o) = _ := e
    have L := m210 hb (d := d) (by omega) p1 o hc hc2 (Int32.ofNat k) (Int32.ofNat v) 0
    rw [e, gc_v, s209_105, gT_mm, if_pos hb.1.t, L, gc_n, s209_109, qb_r]
    exact t338 (a := yOne E k v 0) hb (lay_w h c k v 0 (by omega)) g.2.1 (by omega)

/-! ===== WORK: the model runs a step ===== -/
set_option maxRecDepth 100000
/-- a run on the model's row -/
def WM (I : Nat → Nat → Int32) (E : gdE) (s : gdT) : Prop := (I 1231 35 = Int32.ofNat s.2.1 ∧ I 1231 36 = Int32.ofNat s.2.2.1 ∧ I 1231 37 = Int32.ofNat s.2.2.2) ∧ (MC I E (-1) s.1 ∧ MLx I (eL E)) ∧ (EI E ∧ RJ E s.1 ∧ s.2.1 ≤ 200 ∧ s.2.2.1 + s.2.2.2 ≤ s.2.1)
/-- what a run's steps leave -/
def WG (I I' : Nat → Nat → Int32) : Prop := (∀ b, b ≠ 1231 → b ≠ 1246 → b ≠ 1247 → b ≠ 1251 → b ≠ 1253 → I' b = I b) ∧ ∀ j, j ≠ 35 → j ≠ 36 → j ≠ 37 → I' 1231 j = I 1231 j
theorem WG.refl (I : Nat → Nat → Int32) : WG I I := ⟨fun _ _ _ _ _ _ => rfl, fun _ _ _ _ => rfl⟩
theorem WG.trans {I1 I2 I3 : Nat → Nat → Int32} (x : WG I1 I2) (y : WG I2 I3) : WG I1 I3 := ⟨fun b h1 h2 h3 h4 h5 => (y.1 b h1 h2 h3 h4 h5).trans (x.1 b h1 h2 h3 h4 h5), fun j h1 h2 h3 => (y.2 j h1 h2 h3).trans (x.2 j h1 h2 h3)⟩
theorem MC.fj {I I' : Nat → Nat → Int32} {E : gdE} {al : Int32} {r : gdR} (hx : MC I E al r) (h1 : ∀ j, j = 20 ∨ j = 21 ∨ j = 42 → I' 1231 j = I 1231 j) (h2 : I' 1238 = I 1238) (h3 : I' 1240 = I 1240) (h4 : I' 1241 = I 1241) (h5 : I' 1251 = I 1251) : MC I' E al r := by
  unfold MC
  rw [h1 20 (by omega), h1 21 (by omega), h1 42 (by omega), h2, h3, h4, h5]
  exact hx
theorem MLx.fj {I I' : Nat → Nat → Int32} {V : gdV} (hl : MLx I V) (h1 : I' 1231 28 = I 1231 28) (h2 : I' 1244 = I 1244) (h3 : I' 1245 = I 1245) : MLx I' V := by
  unfold MLx
  rw [h1, h2, h3]
  exact hl
/-- the step is done, or refused -/
theorem m213 {h : gd_H} {I : Nat → Nat → Int32} {E : gdE} {s : gdT} {k x y : Nat} (hm : MS h) (hx : MC I E (-1) s.1) (hl : MLx I (eL E)) (ei : EI E) (rj : RJ E s.1) (hp : POK E k x y) {d : Nat} (hd : 12 ≤ d) : ∃ I2, run gd_P0 d 213 [.ref 1231, .int (Int32.ofNat k), .int (Int32.ofNat x), .int (Int32.ofNat y)] (wI h I) = some (.inl (some (.int (if pStB E k x y s.1 = true then 1 else 0))), wI h I2) ∧ MC I2 E (-1) (if pStB E k x y s.1 = true then pSt E k x y s.1 else s.1) ∧ (∀ b, b ≠ 1246 → b ≠ 1247 → b ≠ 1251 → b ≠ 1253 → I2 b = I b) ∧ RJ E (if pStB E k x y s.1 = true then pSt E k x y s.1 else s.1) := by
  obtain ⟨d, rfl⟩ : ∃ e, d = e + 1 := ⟨d - 1, by omega⟩
  obtain ⟨m, hmm, ri⟩ := rj
  have eN7 := hx.1.2
  have eB6 := hx.1.1
  have hmI : MS (wI h I) := hm
  have hx1 : MC (gI (wI h I)) E (-1) s.1 := hx
  have t8 : gT (wI h I) 1231 = 8 := hm.t
  have q7 : (7 : Int32) + Int32.ofNat x = Int32.ofNat (7 + x) := j_add 7 x
  have q35 : (35 : Int32) + Int32.ofNat x = Int32.ofNat (35 + x) := j_add 35 x
  have b01 : ∀ B : Bool, ((if B = true then (1 : Int32) else 0) = 0 ∨ (if B = true then (1 : Int32) else 0) = 1) := fun B => by cases B <;> decide
  rw [r213, s213_0]
  -- a field is written
  have fld : ∀ (j : Nat) (v : Int32) (B : Bool), j < 50 → B = (!decide (s.1 j = v)) → RJ E (rw1 s.1 j v) → ∃ I2, run gd_P0 d 217 [.ref 1231, .int (Int32.ofNat j), .int v] (wI h I) = some (.inl (some (.int (if B = true then 1 else 0))), wI h I2) ∧ MC I2 E (-1) (if B = true then rw1 s.1 j v else s.1) ∧ (∀ b, b ≠ 1251 → I2 b = I b) ∧ RJ E (if B = true then rw1 s.1 j v else s.1) := by
    intro j v B hj hB hr
    obtain ⟨I2, e2, x2, f2⟩ := sp217 (d := d) (by omega) hmI hx1 j hj v
    obtain ⟨q1, q2⟩ := pStB_eq hB
    exact ⟨I2, by rw [e2, q1, wI_wI], by rw [q2]; exact x2, f2, by rw [q2]; exact hr⟩
  have K : k = 0 ∨ k = 1 ∨ k = 2 ∨ k = 3 ∨ k = 4 ∨ k = 5 ∨ k = 6 := by unfold POK at hp; omega
  rcases K with rfl | rfl | rfl | rfl | rfl | rfl | rfl
  · have hx' : x < eN E := by unfold POK at hp; omega
    obtain ⟨I2, e2, x2, f2⟩ := sp214 (d := d) (by omega) hmI hx1 ri x (by omega)
    rw [if_pos (show Int32.ofNat 0 = 0 from rfl), if_pos t8, e2, gc_v, s213_9, if_pos (b01 _)]
    refine ⟨I2, rfl, x2, fun b h1 h2 h3 h4 => f2 b h3, ?_⟩
    show RJ E (if pNoB E s.1 x = true then pNo E s.1 x else s.1)
    split
    · exact ⟨m, hmm, ri.no (by omega)⟩
    · exact ⟨m, hmm, ri⟩
  · have hx' : x < eN E := by unfold POK at hp; omega
    obtain ⟨I2, e2, x2, f2, r2⟩ := fld (7 + x) (Int32.ofNat y) (pStB E 1 x y s.1) (by omega) rfl ⟨m, hmm, ri.rw (by omega)⟩
    rw [if_neg (show ¬ Int32.ofNat 1 = 0 by decide), if_pos (show Int32.ofNat 1 = 1 from rfl), if_pos t8, q7, e2, gc_v, s213_24, if_pos (b01 _)]
    exact ⟨I2, rfl, x2, fun b h1 h2 h3 h4 => f2 b h3, r2⟩
  · have hx' : x < 10 := by unfold POK at hp; omega
    obtain ⟨I2, e2, x2, f2, r2⟩ := fld 48 (Int32.ofNat x) (pStB E 2 x y s.1) (by omega) rfl ⟨m, hmm, ri.rw (Or.inr (Or.inr ⟨rfl, x, by omega, rfl⟩))⟩
    have e2 : run gd_P0 d 217 [.ref 1231, .int 48, .int (Int32.ofNat x)] (wI h I) = _ := e2
    rw [if_neg (show ¬ Int32.ofNat 2 = 0 by decide), if_neg (show ¬ Int32.ofNat 2 = 1 by decide), if_pos (show Int32.ofNat 2 = 2 from rfl), if_pos t8, e2, gc_v, s213_37, if_pos (b01 _)]
    exact ⟨I2, rfl, x2, fun b h1 h2 h3 h4 => f2 b h3, r2⟩
  · have hx' : x < eB E ∧ 1 ≤ y ∧ y < 10 := by unfold POK at hp; omega
    obtain ⟨I2, e2, x2, f2⟩ := sp218 (d := d) (by omega) hmI hx1 x (by omega) y
    have q : pStB E 3 x y s.1 = decide (Int32.ofNat y < s.1 (42 + x)) := rfl
    have q1 : (if Int32.ofNat y < s.1 (42 + x) then (1 : Int32) else 0) = (if pStB E 3 x y s.1 = true then 1 else 0) := by rw [q]; simp only [decide_eq_true_eq]
    have q2 : (if Int32.ofNat y < s.1 (42 + x) then pPl E s.1 x (Int32.ofNat y) else s.1) = (if pStB E 3 x y s.1 = true then pSt E 3 x y s.1 else s.1) := by rw [q]; simp only [decide_eq_true_eq]; rfl
    rw [if_neg (show ¬ Int32.ofNat 3 = 0 by decide), if_neg (show ¬ Int32.ofNat 3 = 1 by decide), if_neg (show ¬ Int32.ofNat 3 = 2 by decide), if_pos (show Int32.ofNat 3 = 3 from rfl), if_pos t8, e2, gc_v, s213_49, q1, if_pos (b01 _)]
    refine ⟨I2, rfl, by rw [← q2]; exact x2, fun b h1 h2 h3 h4 => f2 b h3, ?_⟩
    by_cases z : pStB E 3 x y s.1 = true
    · rw [if_pos z]
      exact ⟨m, hmm, ri.pl (by omega) (by omega) (by rw [q, decide_eq_true_eq] at z; exact z)⟩
    · rw [if_neg z]
      exact ⟨m, hmm, ri⟩
  · have hx' : x < eN E := by unfold POK at hp; omega
    obtain ⟨I2, e2, x2, f2, r2⟩ := fld (35 + x) 0 (pStB E 4 x y s.1) (by omega) rfl ⟨m, hmm, ri.rw (Or.inr (Or.inl ⟨by omega, by omega, Or.inl rfl⟩))⟩
    rw [if_neg (show ¬ Int32.ofNat 4 = 0 by decide), if_neg (show ¬ Int32.ofNat 4 = 1 by decide), if_neg (show ¬ Int32.ofNat 4 = 2 by decide), if_neg (show ¬ Int32.ofNat 4 = 3 by decide), if_pos (show Int32.ofNat 4 = 4 from rfl), s213_60, if_neg (show ¬ Int32.ofNat 4 = 5 by decide), s213_75, if_pos t8, q35, e2, gc_v, s213_78, if_pos (b01 _)]
    exact ⟨I2, rfl, x2, fun b h1 h2 h3 h4 => f2 b h3, r2⟩
  · have hx' : x < eN E := by unfold POK at hp; omega
    obtain ⟨I2, e2, x2, f2, r2⟩ := fld (35 + x) 1 (pStB E 5 x y s.1) (by omega) rfl ⟨m, hmm, ri.rw (Or.inr (Or.inl ⟨by omega, by omega, Or.inr rfl⟩))⟩
    rw [if_neg (show ¬ Int32.ofNat 5 = 0 by decide), if_neg (show ¬ Int32.ofNat 5 = 1 by decide), if_neg (show ¬ Int32.ofNat 5 = 2 by decide), if_neg (show ¬ Int32.ofNat 5 = 3 by decide), if_neg (show ¬ Int32.ofNat 5 = 4 by decide), if_pos (show Int32.ofNat 5 = 5 from rfl), s213_60, if_pos (show Int32.ofNat 5 = 5 from rfl), s213_75, if_pos t8, q35, e2, gc_v, s213_78, if_pos (b01 _)]
    exact ⟨I2, rfl, x2, fun b h1 h2 h3 h4 => f2 b h3, r2⟩
  · have xy : x = 0 ∧ y = 0 := by unfold POK at hp; omega
    obtain ⟨rfl, rfl⟩ := xy
    have q49 : (s.1 49 = 400) = (m = 400) := by rw [ri.2.2.1]; exact j_eq (n := 400) (by omega) (by omega)
    have i49 : gI (wI h I) 1251 49 = s.1 49 := hx.2.2.2.2.2 49 (by omega)
    have l39 : ¬ ((49 : Int32) < 0 ∨ gL (wI h I) 1251 ≤ Int32.toNatClampNeg (49 : Int32)) := by rw [gL_wI, m_l39 hm]; decide
    rw [if_neg (show ¬ Int32.ofNat 6 = 0 by decide), if_neg (show ¬ Int32.ofNat 6 = 1 by decide), if_neg (show ¬ Int32.ofNat 6 = 2 by decide), if_neg (show ¬ Int32.ofNat 6 = 3 by decide), if_neg (show ¬ Int32.ofNat 6 = 4 by decide), if_neg (show ¬ Int32.ofNat 6 = 5 by decide), if_pos t8, gR_wI, m_r39 hm, if_pos ⟨m_t39 hm, l39⟩, show Int32.toNatClampNeg 49 = 49 from rfl, i49]
    by_cases c : m = 400
    · have z : pStB E 6 0 0 s.1 = false := by
        show (!decide (s.1 49 = 400)) = false
        rw [decide_eq_true (show s.1 49 = 400 by rw [q49]; exact c)]; rfl
      rw [if_pos (show s.1 49 = 400 by rw [q49]; exact c), z]
      exact ⟨I, rfl, hx, fun _ _ _ _ _ => rfl, ⟨m, hmm, ri⟩⟩
    · have z : pStB E 6 0 0 s.1 = true := by
        show (!decide (s.1 49 = 400)) = true
        rw [decide_eq_false (show ¬ s.1 49 = 400 by rw [q49]; exact c)]; rfl
      obtain ⟨I2, e2, x2, f2⟩ := sp219 (d := d) (by omega) hmI hx1 ri (by omega) ei (LWm_of hmI hl)
      rw [if_neg (show ¬ s.1 49 = 400 by rw [q49]; exact c), if_pos t8, e2, gc_n, s213_98, z]
      exact ⟨I2, rfl, x2, f2, ⟨m + 1, by omega, ri.mo ei (Or.inl rfl) (by omega)⟩⟩

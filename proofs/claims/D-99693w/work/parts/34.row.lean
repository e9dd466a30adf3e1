/-! ===== WHAT THE MODEL'S METHODS DO: the row s at 1251, the school at 1238 .. 1241 ===== -/
set_option maxRecDepth 100000
/-- the model's cells: field, cell, kind, length -/
def msT : List (Nat × Nat × Nat × Nat) := [(1, 1232, 31, 2), (9, 1233, 31, 600), (10, 1234, 31, 12), (11, 1235, 31, 14), (12, 1236, 31, 7), (13, 1237, 31, 12), (14, 1238, 31, 12), (15, 1239, 31, 14), (16, 1240, 31, 7), (17, 1241, 31, 12), (22, 1242, 31, 150), (23, 1243, 31, 150), (24, 1244, 31, 150), (25, 1245, 31, 150), (26, 1246, 31, 150), (29, 1247, 31, 8), (30, 1248, 31, 150), (31, 1249, 31, 150), (38, 1250, 31, 50), (39, 1251, 31, 50), (40, 1252, 31, 800), (41, 1253, 31, 7), (43, 1254, 31, 13), (44, 1255, 31, 13), (46, 1256, 31, 256), (47, 1257, 31, 7), (48, 1258, 31, 7), (49, 1259, 31, 1300), (50, 1260, 33, 100), (51, 1261, 31, 1000), (52, 1262, 34, 14), (55, 1263, 31, 2553)]
def MS (h : gd_H) : Prop := gT h 1231 = 8 ∧ ∀ e ∈ msT, gR h 1231 e.1 = e.2.1 ∧ gT h e.2.1 = e.2.2.1 ∧ gL h e.2.1 = e.2.2.2
theorem MS.t {h : gd_H} (hm : MS h) : gT h 1231 = 8 := hm.1
theorem MS.wI {h : gd_H} (I : Nat → Nat → Int32) (hm : MS h) : MS (wI h I) := hm
theorem m_r1 {h : gd_H} (hm : MS h) : gR h 1231 1 = 1232 := (hm.2 _ (List.mem_of_getElem? (i := 0) rfl)).1
theorem m_t1 {h : gd_H} (hm : MS h) : gT h 1232 = 31 := (hm.2 _ (List.mem_of_getElem? (i := 0) rfl)).2.1
theorem m_l1 {h : gd_H} (hm : MS h) : gL h 1232 = 2 := (hm.2 _ (List.mem_of_getElem? (i := 0) rfl)).2.2
theorem m_r9 {h : gd_H} (hm : MS h) : gR h 1231 9 = 1233 := (hm.2 _ (List.mem_of_getElem? (i := 1) rfl)).1
theorem m_t9 {h : gd_H} (hm : MS h) : gT h 1233 = 31 := (hm.2 _ (List.mem_of_getElem? (i := 1) rfl)).2.1
theorem m_l9 {h : gd_H} (hm : MS h) : gL h 1233 = 600 := (hm.2 _ (List.mem_of_getElem? (i := 1) rfl)).2.2
theorem m_r10 {h : gd_H} (hm : MS h) : gR h 1231 10 = 1234 := (hm.2 _ (List.mem_of_getElem? (i := 2) rfl)).1
theorem m_t10 {h : gd_H} (hm : MS h) : gT h 1234 = 31 := (hm.2 _ (List.mem_of_getElem? (i := 2) rfl)).2.1
theorem m_l10 {h : gd_H} (hm : MS h) : gL h 1234 = 12 := (hm.2 _ (List.mem_of_getElem? (i := 2) rfl)).2.2
theorem m_r11 {h : gd_H} (hm : MS h) : gR h 1231 11 = 1235 := (hm.2 _ (List.mem_of_getElem? (i := 3) rfl)).1
theorem m_t11 {h : gd_H} (hm : MS h) : gT h 1235 = 31 := (hm.2 _ (List.mem_of_getElem? (i := 3) rfl)).2.1
theorem m_l11 {h : gd_H} (hm : MS h) : gL h 1235 = 14 := (hm.2 _ (List.mem_of_getElem? (i := 3) rfl)).2.2
theorem m_r12 {h : gd_H} (hm : MS h) : gR h 1231 12 = 1236 := (hm.2 _ (List.mem_of_getElem? (i := 4) rfl)).1
theorem m_t12 {h : gd_H} (hm : MS h) : gT h 1236 = 31 := (hm.2 _ (List.mem_of_getElem? (i := 4) rfl)).2.1
theorem m_l12 {h : gd_H} (hm : MS h) : gL h 1236 = 7 := (hm.2 _ (List.mem_of_getElem? (i := 4) rfl)).2.2
theorem m_r13 {h : gd_H} (hm : MS h) : gR h 1231 13 = 1237 := (hm.2 _ (List.mem_of_getElem? (i := 5) rfl)).1
theorem m_t13 {h : gd_H} (hm : MS h) : gT h 1237 = 31 := (hm.2 _ (List.mem_of_getElem? (i := 5) rfl)).2.1
theorem m_l13 {h : gd_H} (hm : MS h) : gL h 1237 = 12 := (hm.2 _ (List.mem_of_getElem? (i := 5) rfl)).2.2
theorem m_r14 {h : gd_H} (hm : MS h) : gR h 1231 14 = 1238 := (hm.2 _ (List.mem_of_getElem? (i := 6) rfl)).1
theorem m_t14 {h : gd_H} (hm : MS h) : gT h 1238 = 31 := (hm.2 _ (List.mem_of_getElem? (i := 6) rfl)).2.1
theorem m_l14 {h : gd_H} (hm : MS h) : gL h 1238 = 12 := (hm.2 _ (List.mem_of_getElem? (i := 6) rfl)).2.2
theorem m_r15 {h : gd_H} (hm : MS h) : gR h 1231 15 = 1239 := (hm.2 _ (List.mem_of_getElem? (i := 7) rfl)).1
theorem m_t15 {h : gd_H} (hm : MS h) : gT h 1239 = 31 := (hm.2 _ (List.mem_of_getElem? (i := 7) rfl)).2.1
theorem m_l15 {h : gd_H} (hm : MS h) : gL h 1239 = 14 := (hm.2 _ (List.mem_of_getElem? (i := 7) rfl)).2.2
theorem m_r16 {h : gd_H} (hm : MS h) : gR h 1231 16 = 1240 := (hm.2 _ (List.mem_of_getElem? (i := 8) rfl)).1
theorem m_t16 {h : gd_H} (hm : MS h) : gT h 1240 = 31 := (hm.2 _ (List.mem_of_getElem? (i := 8) rfl)).2.1
theorem m_l16 {h : gd_H} (hm : MS h) : gL h 1240 = 7 := (hm.2 _ (List.mem_of_getElem? (i := 8) rfl)).2.2
theorem m_r17 {h : gd_H} (hm : MS h) : gR h 1231 17 = 1241 := (hm.2 _ (List.mem_of_getElem? (i := 9) rfl)).1
theorem m_t17 {h : gd_H} (hm : MS h) : gT h 1241 = 31 := (hm.2 _ (List.mem_of_getElem? (i := 9) rfl)).2.1
theorem m_l17 {h : gd_H} (hm : MS h) : gL h 1241 = 12 := (hm.2 _ (List.mem_of_getElem? (i := 9) rfl)).2.2
theorem m_r22 {h : gd_H} (hm : MS h) : gR h 1231 22 = 1242 := (hm.2 _ (List.mem_of_getElem? (i := 10) rfl)).1
theorem m_t22 {h : gd_H} (hm : MS h) : gT h 1242 = 31 := (hm.2 _ (List.mem_of_getElem? (i := 10) rfl)).2.1
theorem m_l22 {h : gd_H} (hm : MS h) : gL h 1242 = 150 := (hm.2 _ (List.mem_of_getElem? (i := 10) rfl)).2.2
theorem m_r23 {h : gd_H} (hm : MS h) : gR h 1231 23 = 1243 := (hm.2 _ (List.mem_of_getElem? (i := 11) rfl)).1
theorem m_t23 {h : gd_H} (hm : MS h) : gT h 1243 = 31 := (hm.2 _ (List.mem_of_getElem? (i := 11) rfl)).2.1
theorem m_l23 {h : gd_H} (hm : MS h) : gL h 1243 = 150 := (hm.2 _ (List.mem_of_getElem? (i := 11) rfl)).2.2
theorem m_r24 {h : gd_H} (hm : MS h) : gR h 1231 24 = 1244 := (hm.2 _ (List.mem_of_getElem? (i := 12) rfl)).1
theorem m_t24 {h : gd_H} (hm : MS h) : gT h 1244 = 31 := (hm.2 _ (List.mem_of_getElem? (i := 12) rfl)).2.1
theorem m_l24 {h : gd_H} (hm : MS h) : gL h 1244 = 150 := (hm.2 _ (List.mem_of_getElem? (i := 12) rfl)).2.2
theorem m_r25 {h : gd_H} (hm : MS h) : gR h 1231 25 = 1245 := (hm.2 _ (List.mem_of_getElem? (i := 13) rfl)).1
theorem m_t25 {h : gd_H} (hm : MS h) : gT h 1245 = 31 := (hm.2 _ (List.mem_of_getElem? (i := 13) rfl)).2.1
theorem m_l25 {h : gd_H} (hm : MS h) : gL h 1245 = 150 := (hm.2 _ (List.mem_of_getElem? (i := 13) rfl)).2.2
theorem m_r26 {h : gd_H} (hm : MS h) : gR h 1231 26 = 1246 := (hm.2 _ (List.mem_of_getElem? (i := 14) rfl)).1
theorem m_t26 {h : gd_H} (hm : MS h) : gT h 1246 = 31 := (hm.2 _ (List.mem_of_getElem? (i := 14) rfl)).2.1
theorem m_l26 {h : gd_H} (hm : MS h) : gL h 1246 = 150 := (hm.2 _ (List.mem_of_getElem? (i := 14) rfl)).2.2
theorem m_r29 {h : gd_H} (hm : MS h) : gR h 1231 29 = 1247 := (hm.2 _ (List.mem_of_getElem? (i := 15) rfl)).1
theorem m_t29 {h : gd_H} (hm : MS h) : gT h 1247 = 31 := (hm.2 _ (List.mem_of_getElem? (i := 15) rfl)).2.1
theorem m_l29 {h : gd_H} (hm : MS h) : gL h 1247 = 8 := (hm.2 _ (List.mem_of_getElem? (i := 15) rfl)).2.2
theorem m_r30 {h : gd_H} (hm : MS h) : gR h 1231 30 = 1248 := (hm.2 _ (List.mem_of_getElem? (i := 16) rfl)).1
theorem m_t30 {h : gd_H} (hm : MS h) : gT h 1248 = 31 := (hm.2 _ (List.mem_of_getElem? (i := 16) rfl)).2.1
theorem m_l30 {h : gd_H} (hm : MS h) : gL h 1248 = 150 := (hm.2 _ (List.mem_of_getElem? (i := 16) rfl)).2.2
theorem m_r31 {h : gd_H} (hm : MS h) : gR h 1231 31 = 1249 := (hm.2 _ (List.mem_of_getElem? (i := 17) rfl)).1
theorem m_t31 {h : gd_H} (hm : MS h) : gT h 1249 = 31 := (hm.2 _ (List.mem_of_getElem? (i := 17) rfl)).2.1
theorem m_l31 {h : gd_H} (hm : MS h) : gL h 1249 = 150 := (hm.2 _ (List.mem_of_getElem? (i := 17) rfl)).2.2
theorem m_r38 {h : gd_H} (hm : MS h) : gR h 1231 38 = 1250 := (hm.2 _ (List.mem_of_getElem? (i := 18) rfl)).1
theorem m_t38 {h : gd_H} (hm : MS h) : gT h 1250 = 31 := (hm.2 _ (List.mem_of_getElem? (i := 18) rfl)).2.1
theorem m_l38 {h : gd_H} (hm : MS h) : gL h 1250 = 50 := (hm.2 _ (List.mem_of_getElem? (i := 18) rfl)).2.2
theorem m_r39 {h : gd_H} (hm : MS h) : gR h 1231 39 = 1251 := (hm.2 _ (List.mem_of_getElem? (i := 19) rfl)).1
theorem m_t39 {h : gd_H} (hm : MS h) : gT h 1251 = 31 := (hm.2 _ (List.mem_of_getElem? (i := 19) rfl)).2.1
theorem m_l39 {h : gd_H} (hm : MS h) : gL h 1251 = 50 := (hm.2 _ (List.mem_of_getElem? (i := 19) rfl)).2.2
theorem m_r40 {h : gd_H} (hm : MS h) : gR h 1231 40 = 1252 := (hm.2 _ (List.mem_of_getElem? (i := 20) rfl)).1
theorem m_t40 {h : gd_H} (hm : MS h) : gT h 1252 = 31 := (hm.2 _ (List.mem_of_getElem? (i := 20) rfl)).2.1
theorem m_l40 {h : gd_H} (hm : MS h) : gL h 1252 = 800 := (hm.2 _ (List.mem_of_getElem? (i := 20) rfl)).2.2
theorem m_r41 {h : gd_H} (hm : MS h) : gR h 1231 41 = 1253 := (hm.2 _ (List.mem_of_getElem? (i := 21) rfl)).1
theorem m_t41 {h : gd_H} (hm : MS h) : gT h 1253 = 31 := (hm.2 _ (List.mem_of_getElem? (i := 21) rfl)).2.1
theorem m_l41 {h : gd_H} (hm : MS h) : gL h 1253 = 7 := (hm.2 _ (List.mem_of_getElem? (i := 21) rfl)).2.2
theorem m_r43 {h : gd_H} (hm : MS h) : gR h 1231 43 = 1254 := (hm.2 _ (List.mem_of_getElem? (i := 22) rfl)).1
theorem m_t43 {h : gd_H} (hm : MS h) : gT h 1254 = 31 := (hm.2 _ (List.mem_of_getElem? (i := 22) rfl)).2.1
theorem m_l43 {h : gd_H} (hm : MS h) : gL h 1254 = 13 := (hm.2 _ (List.mem_of_getElem? (i := 22) rfl)).2.2
theorem m_r44 {h : gd_H} (hm : MS h) : gR h 1231 44 = 1255 := (hm.2 _ (List.mem_of_getElem? (i := 23) rfl)).1
theorem m_t44 {h : gd_H} (hm : MS h) : gT h 1255 = 31 := (hm.2 _ (List.mem_of_getElem? (i := 23) rfl)).2.1
theorem m_l44 {h : gd_H} (hm : MS h) : gL h 1255 = 13 := (hm.2 _ (List.mem_of_getElem? (i := 23) rfl)).2.2
theorem m_r46 {h : gd_H} (hm : MS h) : gR h 1231 46 = 1256 := (hm.2 _ (List.mem_of_getElem? (i := 24) rfl)).1
theorem m_t46 {h : gd_H} (hm : MS h) : gT h 1256 = 31 := (hm.2 _ (List.mem_of_getElem? (i := 24) rfl)).2.1
theorem m_l46 {h : gd_H} (hm : MS h) : gL h 1256 = 256 := (hm.2 _ (List.mem_of_getElem? (i := 24) rfl)).2.2
theorem m_r47 {h : gd_H} (hm : MS h) : gR h 1231 47 = 1257 := (hm.2 _ (List.mem_of_getElem? (i := 25) rfl)).1
theorem m_t47 {h : gd_H} (hm : MS h) : gT h 1257 = 31 := (hm.2 _ (List.mem_of_getElem? (i := 25) rfl)).2.1
theorem m_l47 {h : gd_H} (hm : MS h) : gL h 1257 = 7 := (hm.2 _ (List.mem_of_getElem? (i := 25) rfl)).2.2
theorem m_r48 {h : gd_H} (hm : MS h) : gR h 1231 48 = 1258 := (hm.2 _ (List.mem_of_getElem? (i := 26) rfl)).1
theorem m_t48 {h : gd_H} (hm : MS h) : gT h 1258 = 31 := (hm.2 _ (List.mem_of_getElem? (i := 26) rfl)).2.1
theorem m_l48 {h : gd_H} (hm : MS h) : gL h 1258 = 7 := (hm.2 _ (List.mem_of_getElem? (i := 26) rfl)).2.2
theorem m_r49 {h : gd_H} (hm : MS h) : gR h 1231 49 = 1259 := (hm.2 _ (List.mem_of_getElem? (i := 27) rfl)).1
theorem m_t49 {h : gd_H} (hm : MS h) : gT h 1259 = 31 := (hm.2 _ (List.mem_of_getElem? (i := 27) rfl)).2.1
theorem m_l49 {h : gd_H} (hm : MS h) : gL h 1259 = 1300 := (hm.2 _ (List.mem_of_getElem? (i := 27) rfl)).2.2
theorem m_r50 {h : gd_H} (hm : MS h) : gR h 1231 50 = 1260 := (hm.2 _ (List.mem_of_getElem? (i := 28) rfl)).1
theorem m_t50 {h : gd_H} (hm : MS h) : gT h 1260 = 33 := (hm.2 _ (List.mem_of_getElem? (i := 28) rfl)).2.1
theorem m_l50 {h : gd_H} (hm : MS h) : gL h 1260 = 100 := (hm.2 _ (List.mem_of_getElem? (i := 28) rfl)).2.2
theorem m_r51 {h : gd_H} (hm : MS h) : gR h 1231 51 = 1261 := (hm.2 _ (List.mem_of_getElem? (i := 29) rfl)).1
theorem m_t51 {h : gd_H} (hm : MS h) : gT h 1261 = 31 := (hm.2 _ (List.mem_of_getElem? (i := 29) rfl)).2.1
theorem m_l51 {h : gd_H} (hm : MS h) : gL h 1261 = 1000 := (hm.2 _ (List.mem_of_getElem? (i := 29) rfl)).2.2
theorem m_r52 {h : gd_H} (hm : MS h) : gR h 1231 52 = 1262 := (hm.2 _ (List.mem_of_getElem? (i := 30) rfl)).1
theorem m_t52 {h : gd_H} (hm : MS h) : gT h 1262 = 34 := (hm.2 _ (List.mem_of_getElem? (i := 30) rfl)).2.1
theorem m_l52 {h : gd_H} (hm : MS h) : gL h 1262 = 14 := (hm.2 _ (List.mem_of_getElem? (i := 30) rfl)).2.2
theorem m_r55 {h : gd_H} (hm : MS h) : gR h 1231 55 = 1263 := (hm.2 _ (List.mem_of_getElem? (i := 31) rfl)).1
theorem m_t55 {h : gd_H} (hm : MS h) : gT h 1263 = 31 := (hm.2 _ (List.mem_of_getElem? (i := 31) rfl)).2.1
theorem m_l55 {h : gd_H} (hm : MS h) : gL h 1263 = 2553 := (hm.2 _ (List.mem_of_getElem? (i := 31) rfl)).2.2
def MC (I : Nat → Nat → Int32) (E : gdE) (al : Int32) (r : gdR) : Prop := (eB E ≤ 6 ∧ eN E ≤ 7) ∧ (I 1231 20 = Int32.ofNat (eB E) ∧ I 1231 21 = Int32.ofNat (eN E) ∧ I 1231 42 = al) ∧ (∀ k, k < eB E → I 1238 (2 * k + 1) = eG E k) ∧ (∀ p, p < 7 → I 1240 p = eK E p) ∧ (∀ m, m < 12 → I 1241 m = eR E m) ∧ (∀ j, j < 50 → I 1251 j = r j)
theorem MC.fr {I I' : Nat → Nat → Int32} {E : gdE} {al : Int32} {r : gdR} (hx : MC I E al r) (h1 : I' 1231 = I 1231) (h2 : I' 1238 = I 1238) (h3 : I' 1240 = I 1240) (h4 : I' 1241 = I 1241) (h5 : I' 1251 = I 1251) : MC I' E al r := by
  unfold MC
  rw [h1, h2, h3, h4, h5]
  exact hx
theorem MC.w {I : Nat → Nat → Int32} {E : gdE} {al : Int32} {r : gdR} (hx : MC I E al r) {k : Nat} (hk : k < 50) (v : Int32) : MC (up1 I 1251 k v) E al (rw1 r k v) := by
  obtain ⟨h0, ⟨iB, iN, iA⟩, iG, iK, iR, cS⟩ := hx
  refine ⟨h0, ⟨?_, ?_, ?_⟩, fun k hk => ?_, fun p hp => ?_, fun m hm => ?_, fun j hj => ?_⟩
  · rw [up1_nc _ _ _ (by omega)]; exact iB
  · rw [up1_nc _ _ _ (by omega)]; exact iN
  · rw [up1_nc _ _ _ (by omega)]; exact iA
  · rw [up1_nc _ _ _ (by omega)]; exact iG k hk
  · rw [up1_nc _ _ _ (by omega)]; exact iK p hp
  · rw [up1_nc _ _ _ (by omega)]; exact iR m hm
  · by_cases z : j = k
    · subst z; rw [up1_eq, rw1_eq]
    · rw [up1_nj _ _ z, rw1_ne _ _ z]; exact cS j hj
/-- the model's law, whatever its other ints are -/
def LWm (h : gd_H) (lw : (Nat → Int32) → Int32) : Prop := ∀ (d : Nat) (I : Nat → Nat → Int32), 5 ≤ d → I 1244 = gI h 1244 → I 1245 = gI h 1245 → I 1231 28 = gI h 1231 28 → ∃ I' : Nat → Nat → Int32, run gd_P0 d 225 [.ref 1231] (wI h I) = some (.inl (some (.int (pCl (lw (I 1247))))), wI h I') ∧ ∀ b, b ≠ 1246 → I' b = I b
theorem LWm.wI {h : gd_H} {lw : (Nat → Int32) → Int32} (hl : LWm h lw) {I : Nat → Nat → Int32} (h1 : I 1244 = gI h 1244) (h2 : I 1245 = gI h 1245) (h3 : I 1231 28 = gI h 1231 28) : LWm (wI h I) lw := fun d I' hd a1 a2 a3 => hl d I' hd (a1.trans h1) (a2.trans h2) (a3.trans h3)
theorem jx0 (v : Int32) : (if 0 ≤ v then v else 0) = jmax 0 v := by
  unfold jmax
  by_cases h : 0 < v
  · rw [if_pos h, if_pos (Int32.le_of_lt h)]
  · rw [if_neg h]
    by_cases h2 : 0 ≤ v
    · rw [if_pos h2]; exact Int32.le_antisymm (Int32.not_lt.mp h) h2
    · rw [if_neg h2]
theorem jh9 (v : Int32) : (if v ≤ 999 then v else 999) = jmin 999 v := by
  unfold jmin
  by_cases h : v < 999
  · rw [if_pos h, if_pos (Int32.le_of_lt h)]
  · rw [if_neg h]
    by_cases h2 : v ≤ 999
    · rw [if_pos h2]; exact Int32.le_antisymm h2 (Int32.not_lt.mp h)
    · rw [if_neg h2]
theorem sp216 {d : Nat} {h : gd_H} {E : gdE} {al : Int32} {r : gdR} (hd : 1 ≤ d) (hm : MS h) (hx : MC (gI h) E al r) (k : Nat) (hk : k ≤ 6) : run gd_P0 d 216 [.ref 1231, .int (Int32.ofNat k)] h = some (.inl (some (.int (pb r k))), h) := by
  obtain ⟨d, rfl⟩ : ∃ e, d = e + 1 := ⟨d - 1, by omega⟩
  obtain ⟨⟨hB, hN⟩, ⟨iB, iN, iA⟩, iG, iK, iR, cS⟩ := id hx
  rw [r216, s216_0]
  refine (lp_f (fun i x => go gd_P0 d 216 4 [.ref 1231, .int (Int32.ofNat k), .int x, .int (Int32.ofNat i)] [] h) (fun e n => n + r (42 + e)) k 0 ?_).trans ?_
  · intro i hi x
    try dsimp only
    rw [s216_4]
    simp (disch := first | omega | assumption) only [hm.t, m_r39 hm, m_t39 hm, m_l39 hm, iB, iN, iG, iK, iR, cS, gT_wI, gR_wI, gL_wI, gS_wI, gU_wI, gI_wI, gJ_wI, gI_wJ, gJ_wJ, gR_wJ, gT_wJ, gL_wJ, gS_wJ, gU_wJ, gI_wR, gJ_wR, gR_wR, gT_wR, gL_wR, gS_wR, gU_wR, wI_wI, wJ_wJ, wR_wR, j_s, j_add, j_addL, j_addR, j_mulL, j_mulR, j_cl, j_clL, j_neg, j_negL, j_nn, j_lt, j_le, j_eq, j_ltL, j_ltR, j_leL, j_leR, j_eqL, j_eqR, j_m1, j_m1L, j_m1R, j_eqLL, j_ltLL, j_leLL, n_le0, n_le1, n_lt0, n_lt1, gc_v, gc_n, ↓reduceIte, and_true, true_and, and_self, or_self, or_false, false_or, not_false_eq_true, not_true_eq_false, false_and, and_false, Nat.reduceAdd, Nat.reduceEqDiff, Nat.reduceLeDiff, Nat.reduceLT]
  · try dsimp only
    rw [s216_4]
    simp (disch := first | omega | assumption) only [hm.t, m_r39 hm, m_t39 hm, m_l39 hm, iB, iN, iG, iK, iR, cS, gT_wI, gR_wI, gL_wI, gS_wI, gU_wI, gI_wI, gJ_wI, gI_wJ, gJ_wJ, gR_wJ, gT_wJ, gL_wJ, gS_wJ, gU_wJ, gI_wR, gJ_wR, gR_wR, gT_wR, gL_wR, gS_wR, gU_wR, wI_wI, wJ_wJ, wR_wR, j_s, j_add, j_addL, j_addR, j_mulL, j_mulR, j_cl, j_clL, j_neg, j_negL, j_nn, j_lt, j_le, j_eq, j_ltL, j_ltR, j_leL, j_leR, j_eqL, j_eqR, j_m1, j_m1L, j_m1R, j_eqLL, j_ltLL, j_leLL, n_le0, n_le1, n_lt0, n_lt1, gc_v, gc_n, ↓reduceIte, and_true, true_and, and_self, or_self, or_false, false_or, not_false_eq_true, not_true_eq_false, false_and, and_false, Nat.reduceAdd, Nat.reduceEqDiff, Nat.reduceLeDiff, Nat.reduceLT]
    rfl
theorem sp223 {d : Nat} {h : gd_H} {E : gdE} {al : Int32} {r : gdR} (hd : 2 ≤ d) (hm : MS h) (hx : MC (gI h) E al r) {m : Nat} (hr : RI E m r) (p : Nat) (hp : p < 7) : run gd_P0 d 223 [.ref 1231, .int (Int32.ofNat p)] h = some (.inl (some (.int (pAt r p))), h) := by
  obtain ⟨d, rfl⟩ : ∃ e, d = e + 1 := ⟨d - 1, by omega⟩
  obtain ⟨⟨hB, hN⟩, ⟨iB, iN, iA⟩, iG, iK, iR, cS⟩ := id hx
  rw [r223, s223_0]
  unfold pAt
  rcases hr.2.1 p hp with e | ⟨k, hk, e⟩
  · simp (disch := first | omega | assumption) only [hm.t, m_r39 hm, m_t39 hm, m_l39 hm, iB, iN, iG, iK, iR, cS, e, s223_40, gT_wI, gR_wI, gL_wI, gS_wI, gU_wI, gI_wI, gJ_wI, gI_wJ, gJ_wJ, gR_wJ, gT_wJ, gL_wJ, gS_wJ, gU_wJ, gI_wR, gJ_wR, gR_wR, gT_wR, gL_wR, gS_wR, gU_wR, wI_wI, wJ_wJ, wR_wR, j_s, j_add, j_addL, j_addR, j_mulL, j_mulR, j_cl, j_clL, j_neg, j_negL, j_nn, j_lt, j_le, j_eq, j_ltL, j_ltR, j_leL, j_leR, j_eqL, j_eqR, j_m1, j_m1L, j_m1R, j_eqLL, j_ltLL, j_leLL, n_le0, n_le1, n_lt0, n_lt1, gc_v, gc_n, ↓reduceIte, and_true, true_and, and_self, or_self, or_false, false_or, not_false_eq_true, not_true_eq_false, false_and, and_false, Nat.reduceAdd, Nat.reduceEqDiff, Nat.reduceLeDiff, Nat.reduceLT]
  · simp (disch := first | omega | assumption) only [hm.t, m_r39 hm, m_t39 hm, m_l39 hm, iB, iN, iG, iK, iR, cS, e, sp216 (d := d) (by omega) hm hx, s223_30, s223_40, gT_wI, gR_wI, gL_wI, gS_wI, gU_wI, gI_wI, gJ_wI, gI_wJ, gJ_wJ, gR_wJ, gT_wJ, gL_wJ, gS_wJ, gU_wJ, gI_wR, gJ_wR, gR_wR, gT_wR, gL_wR, gS_wR, gU_wR, wI_wI, wJ_wJ, wR_wR, j_s, j_add, j_addL, j_addR, j_mulL, j_mulR, j_cl, j_clL, j_neg, j_negL, j_nn, j_lt, j_le, j_eq, j_ltL, j_ltR, j_leL, j_leR, j_eqL, j_eqR, j_m1, j_m1L, j_m1R, j_eqLL, j_ltLL, j_leLL, n_le0, n_le1, n_lt0, n_lt1, gc_v, gc_n, ↓reduceIte, and_true, true_and, and_self, or_self, or_false, false_or, not_false_eq_true, not_true_eq_false, false_and, and_false, Nat.reduceAdd, Nat.reduceEqDiff, Nat.reduceLeDiff, Nat.reduceLT]
theorem sp222 {d : Nat} {h : gd_H} {E : gdE} {al : Int32} {r : gdR} (hd : 3 ≤ d) (hm : MS h) (hx : MC (gI h) E al r) {m : Nat} (hr : RI E m r) (p : Nat) (hp : p < 7) : run gd_P0 d 222 [.ref 1231, .int (Int32.ofNat p)] h = some (.inl (some (.int (pGain r p))), h) := by
  obtain ⟨d, rfl⟩ : ∃ e, d = e + 1 := ⟨d - 1, by omega⟩
  obtain ⟨⟨hB, hN⟩, ⟨iB, iN, iA⟩, iG, iK, iR, cS⟩ := id hx
  rw [r222, s222_0]
  unfold pGain
  rcases hr.2.1 p hp with e | ⟨k, hk, e⟩
  · simp (disch := first | omega | assumption) only [hm.t, m_r39 hm, m_t39 hm, m_l39 hm, iB, iN, iG, iK, iR, cS, e, s222_31, gT_wI, gR_wI, gL_wI, gS_wI, gU_wI, gI_wI, gJ_wI, gI_wJ, gJ_wJ, gR_wJ, gT_wJ, gL_wJ, gS_wJ, gU_wJ, gI_wR, gJ_wR, gR_wR, gT_wR, gL_wR, gS_wR, gU_wR, wI_wI, wJ_wJ, wR_wR, j_s, j_add, j_addL, j_addR, j_mulL, j_mulR, j_cl, j_clL, j_neg, j_negL, j_nn, j_lt, j_le, j_eq, j_ltL, j_ltR, j_leL, j_leR, j_eqL, j_eqR, j_m1, j_m1L, j_m1R, j_eqLL, j_ltLL, j_leLL, n_le0, n_le1, n_lt0, n_lt1, gc_v, gc_n, ↓reduceIte, and_true, true_and, and_self, or_self, or_false, false_or, not_false_eq_true, not_true_eq_false, false_and, and_false, Nat.reduceAdd, Nat.reduceEqDiff, Nat.reduceLeDiff, Nat.reduceLT]
  · simp (disch := first | omega | assumption) only [hm.t, m_r39 hm, m_t39 hm, m_l39 hm, iB, iN, iG, iK, iR, cS, e, sp223 (d := d) (by omega) hm hx hr, s222_30, s222_31, Nat.zero_add, gT_wI, gR_wI, gL_wI, gS_wI, gU_wI, gI_wI, gJ_wI, gI_wJ, gJ_wJ, gR_wJ, gT_wJ, gL_wJ, gS_wJ, gU_wJ, gI_wR, gJ_wR, gR_wR, gT_wR, gL_wR, gS_wR, gU_wR, wI_wI, wJ_wJ, wR_wR, j_s, j_add, j_addL, j_addR, j_mulL, j_mulR, j_cl, j_clL, j_neg, j_negL, j_nn, j_lt, j_le, j_eq, j_ltL, j_ltR, j_leL, j_leR, j_eqL, j_eqR, j_m1, j_m1L, j_m1R, j_eqLL, j_ltLL, j_leLL, n_le0, n_le1, n_lt0, n_lt1, gc_v, gc_n, ↓reduceIte, and_true, true_and, and_self, or_self, or_false, false_or, not_false_eq_true, not_true_eq_false, false_and, and_false, Nat.reduceAdd, Nat.reduceEqDiff, Nat.reduceLeDiff, Nat.reduceLT]
theorem sp221 {d : Nat} {h : gd_H} {E : gdE} {al : Int32} {r : gdR} (hd : 1 ≤ d) (hm : MS h) (hx : MC (gI h) E al r) {m : Nat} (e : r 49 = Int32.ofNat m) (hm2 : m < 1000000) : run gd_P0 d 221 [.ref 1231] h = some (.inl (some (.int (pRain E al r))), h) := by
  obtain ⟨d, rfl⟩ : ∃ e, d = e + 1 := ⟨d - 1, by omega⟩
  obtain ⟨⟨hB, hN⟩, ⟨iB, iN, iA⟩, iG, iK, iR, cS⟩ := id hx
  rw [r221, s221_0]
  unfold pRain
  have e2 := mod12 m (by omega)
  by_cases hal : al = -1
  · simp (disch := first | omega | assumption) only [hm.t, m_r17 hm, m_t17 hm, m_l17 hm, m_r39 hm, m_t39 hm, m_l39 hm, iB, iN, iG, iK, iR, cS, iA, hal, e, e2, s221_30, gT_wI, gR_wI, gL_wI, gS_wI, gU_wI, gI_wI, gJ_wI, gI_wJ, gJ_wJ, gR_wJ, gT_wJ, gL_wJ, gS_wJ, gU_wJ, gI_wR, gJ_wR, gR_wR, gT_wR, gL_wR, gS_wR, gU_wR, wI_wI, wJ_wJ, wR_wR, j_s, j_add, j_addL, j_addR, j_mulL, j_mulR, j_cl, j_clL, j_neg, j_negL, j_nn, j_lt, j_le, j_eq, j_ltL, j_ltR, j_leL, j_leR, j_eqL, j_eqR, j_m1, j_m1L, j_m1R, j_eqLL, j_ltLL, j_leLL, n_le0, n_le1, n_lt0, n_lt1, gc_v, gc_n, ↓reduceIte, and_true, true_and, and_self, or_self, or_false, false_or, not_false_eq_true, not_true_eq_false, false_and, and_false, Nat.reduceAdd, Nat.reduceEqDiff, Nat.reduceLeDiff, Nat.reduceLT]
  · simp (disch := first | omega | assumption) only [hm.t, m_r17 hm, m_t17 hm, m_l17 hm, m_r39 hm, m_t39 hm, m_l39 hm, iB, iN, iG, iK, iR, cS, iA, hal, s221_30, gT_wI, gR_wI, gL_wI, gS_wI, gU_wI, gI_wI, gJ_wI, gI_wJ, gJ_wJ, gR_wJ, gT_wJ, gL_wJ, gS_wJ, gU_wJ, gI_wR, gJ_wR, gR_wR, gT_wR, gL_wR, gS_wR, gU_wR, wI_wI, wJ_wJ, wR_wR, j_s, j_add, j_addL, j_addR, j_mulL, j_mulR, j_cl, j_clL, j_neg, j_negL, j_nn, j_lt, j_le, j_eq, j_ltL, j_ltR, j_leL, j_leR, j_eqL, j_eqR, j_m1, j_m1L, j_m1R, j_eqLL, j_ltLL, j_leLL, n_le0, n_le1, n_lt0, n_lt1, gc_v, gc_n, ↓reduceIte, and_true, true_and, and_self, or_self, or_false, false_or, not_false_eq_true, not_true_eq_false, false_and, and_false, Nat.reduceAdd, Nat.reduceEqDiff, Nat.reduceLeDiff, Nat.reduceLT]
theorem sp215 {d : Nat} {h : gd_H} {E : gdE} {al : Int32} {r : gdR} (hd : 2 ≤ d) (hm : MS h) (hx : MC (gI h) E al r) (v : Int32) : run gd_P0 d 215 [.ref 1231, .int v] h = some (.inl (some (.int (pLi E r v))), h) := by
  obtain ⟨d, rfl⟩ : ∃ e, d = e + 1 := ⟨d - 1, by omega⟩
  obtain ⟨⟨hB, hN⟩, ⟨iB, iN, iA⟩, iG, iK, iR, cS⟩ := id hx
  rw [r215, s215_0]
  refine lp_fi (fun i => go gd_P0 d 215 2 [.ref 1231, .int v, .int (Int32.ofNat i)] [] h) (fun x => some (.inl (some (.int x)), h)) (fun k => decide (v ≤ pb r (k + 1))) Int32.ofNat (-1) (eB E) 0 ?_ ?_
  · intro i hi hi2
    try dsimp only
    rw [s215_2]
    by_cases c : v ≤ pb r (i + 1)
    · have c2 : ¬ pb r (i + 1) < v := fun z => absurd (Int32.lt_of_lt_of_le z c) Int32.lt_irrefl
      simp (disch := first | omega | assumption) only [hm.t, iB, iN, iG, iK, iR, cS, c, c2, sp216 (d := d) (by omega) hm hx, s215_17, decide_true, gT_wI, gR_wI, gL_wI, gS_wI, gU_wI, gI_wI, gJ_wI, gI_wJ, gJ_wJ, gR_wJ, gT_wJ, gL_wJ, gS_wJ, gU_wJ, gI_wR, gJ_wR, gR_wR, gT_wR, gL_wR, gS_wR, gU_wR, wI_wI, wJ_wJ, wR_wR, j_s, j_add, j_addL, j_addR, j_mulL, j_mulR, j_cl, j_clL, j_neg, j_negL, j_nn, j_lt, j_le, j_eq, j_ltL, j_ltR, j_leL, j_leR, j_eqL, j_eqR, j_m1, j_m1L, j_m1R, j_eqLL, j_ltLL, j_leLL, n_le0, n_le1, n_lt0, n_lt1, gc_v, gc_n, ↓reduceIte, and_true, true_and, and_self, or_self, or_false, false_or, not_false_eq_true, not_true_eq_false, false_and, and_false, Nat.reduceAdd, Nat.reduceEqDiff, Nat.reduceLeDiff, Nat.reduceLT]
    · have c2 : pb r (i + 1) < v := Int32.not_le.mp c
      simp (disch := first | omega | assumption) only [hm.t, iB, iN, iG, iK, iR, cS, c, c2, sp216 (d := d) (by omega) hm hx, s215_17, decide_false, Bool.false_eq_true, gT_wI, gR_wI, gL_wI, gS_wI, gU_wI, gI_wI, gJ_wI, gI_wJ, gJ_wJ, gR_wJ, gT_wJ, gL_wJ, gS_wJ, gU_wJ, gI_wR, gJ_wR, gR_wR, gT_wR, gL_wR, gS_wR, gU_wR, wI_wI, wJ_wJ, wR_wR, j_s, j_add, j_addL, j_addR, j_mulL, j_mulR, j_cl, j_clL, j_neg, j_negL, j_nn, j_lt, j_le, j_eq, j_ltL, j_ltR, j_leL, j_leR, j_eqL, j_eqR, j_m1, j_m1L, j_m1R, j_eqLL, j_ltLL, j_leLL, n_le0, n_le1, n_lt0, n_lt1, gc_v, gc_n, ↓reduceIte, and_true, true_and, and_self, or_self, or_false, false_or, not_false_eq_true, not_true_eq_false, false_and, and_false, Nat.reduceAdd, Nat.reduceEqDiff, Nat.reduceLeDiff, Nat.reduceLT]
  · try dsimp only
    rw [s215_2]
    simp (disch := first | omega | assumption) only [hm.t, iB, iN, iG, iK, iR, cS, Nat.zero_add, gT_wI, gR_wI, gL_wI, gS_wI, gU_wI, gI_wI, gJ_wI, gI_wJ, gJ_wJ, gR_wJ, gT_wJ, gL_wJ, gS_wJ, gU_wJ, gI_wR, gJ_wR, gR_wR, gT_wR, gL_wR, gS_wR, gU_wR, wI_wI, wJ_wJ, wR_wR, j_s, j_add, j_addL, j_addR, j_mulL, j_mulR, j_cl, j_clL, j_neg, j_negL, j_nn, j_lt, j_le, j_eq, j_ltL, j_ltR, j_leL, j_leR, j_eqL, j_eqR, j_m1, j_m1L, j_m1R, j_eqLL, j_ltLL, j_leLL, n_le0, n_le1, n_lt0, n_lt1, gc_v, gc_n, ↓reduceIte, and_true, true_and, and_self, or_self, or_false, false_or, not_false_eq_true, not_true_eq_false, false_and, and_false, Nat.reduceAdd, Nat.reduceEqDiff, Nat.reduceLeDiff, Nat.reduceLT]
theorem sp243 {d : Nat} {h : gd_H} {E : gdE} {al : Int32} {r : gdR} (hd : 1 ≤ d) (hm : MS h) (hx : MC (gI h) E al r) : run gd_P0 d 243 [.ref 1231] h = some (.inl (some (.int (pHs E r))), h) := by
  obtain ⟨d, rfl⟩ : ∃ e, d = e + 1 := ⟨d - 1, by omega⟩
  obtain ⟨⟨hB, hN⟩, ⟨iB, iN, iA⟩, iG, iK, iR, cS⟩ := id hx
  rw [r243, s243_0]
  refine (lp_f (fun i x => go gd_P0 d 243 4 [.ref 1231, .int x, .int (Int32.ofNat i)] [] h) (fun p n => n + r p) (eN E) 0 ?_).trans ?_
  · intro i hi x
    try dsimp only
    rw [s243_4]
    simp (disch := first | omega | assumption) only [hm.t, m_r39 hm, m_t39 hm, m_l39 hm, iB, iN, iG, iK, iR, cS, Nat.zero_add, gT_wI, gR_wI, gL_wI, gS_wI, gU_wI, gI_wI, gJ_wI, gI_wJ, gJ_wJ, gR_wJ, gT_wJ, gL_wJ, gS_wJ, gU_wJ, gI_wR, gJ_wR, gR_wR, gT_wR, gL_wR, gS_wR, gU_wR, wI_wI, wJ_wJ, wR_wR, j_s, j_add, j_addL, j_addR, j_mulL, j_mulR, j_cl, j_clL, j_neg, j_negL, j_nn, j_lt, j_le, j_eq, j_ltL, j_ltR, j_leL, j_leR, j_eqL, j_eqR, j_m1, j_m1L, j_m1R, j_eqLL, j_ltLL, j_leLL, n_le0, n_le1, n_lt0, n_lt1, gc_v, gc_n, ↓reduceIte, and_true, true_and, and_self, or_self, or_false, false_or, not_false_eq_true, not_true_eq_false, false_and, and_false, Nat.reduceAdd, Nat.reduceEqDiff, Nat.reduceLeDiff, Nat.reduceLT]
  · try dsimp only
    rw [s243_4]
    simp (disch := first | omega | assumption) only [hm.t, m_r39 hm, m_t39 hm, m_l39 hm, iB, iN, iG, iK, iR, cS, gT_wI, gR_wI, gL_wI, gS_wI, gU_wI, gI_wI, gJ_wI, gI_wJ, gJ_wJ, gR_wJ, gT_wJ, gL_wJ, gS_wJ, gU_wJ, gI_wR, gJ_wR, gR_wR, gT_wR, gL_wR, gS_wR, gU_wR, wI_wI, wJ_wJ, wR_wR, j_s, j_add, j_addL, j_addR, j_mulL, j_mulR, j_cl, j_clL, j_neg, j_negL, j_nn, j_lt, j_le, j_eq, j_ltL, j_ltR, j_leL, j_leR, j_eqL, j_eqR, j_m1, j_m1L, j_m1R, j_eqLL, j_ltLL, j_leLL, n_le0, n_le1, n_lt0, n_lt1, gc_v, gc_n, ↓reduceIte, and_true, true_and, and_self, or_self, or_false, false_or, not_false_eq_true, not_true_eq_false, false_and, and_false, Nat.reduceAdd, Nat.reduceEqDiff, Nat.reduceLeDiff, Nat.reduceLT]
    rfl
theorem sp235 {d : Nat} {h : gd_H} {E : gdE} {al : Int32} {r : gdR} (hd : 4 ≤ d) (hm : MS h) (hx : MC (gI h) E al r) {m : Nat} (hr : RI E m r) : run gd_P0 d 235 [.ref 1231] h = some (.inl (some (.int (pFam E r))), h) := by
  obtain ⟨d, rfl⟩ : ∃ e, d = e + 1 := ⟨d - 1, by omega⟩
  obtain ⟨⟨hB, hN⟩, ⟨iB, iN, iA⟩, iG, iK, iR, cS⟩ := id hx
  rw [r235, s235_0]
  have L := lp_p (fun i x => go gd_P0 d 235 4 [.ref 1231, .int x, .int (Int32.ofNat i)] [] h) (fun p b => if r (14 + p) = -1 then b else if b = -1 then Int32.ofNat p else if pGain r p ≤ pGain r b.toNatClampNeg then b else Int32.ofNat p) (fun i x => x = -1 ∨ ∃ q, q < i ∧ x = Int32.ofNat q) (eN E) (-1) (Or.inl rfl) ?_
  · refine L.1.trans ?_
    try dsimp only
    rw [s235_4]
    simp (disch := first | omega | assumption) only [hm.t, m_r39 hm, m_t39 hm, m_l39 hm, iB, iN, iG, iK, iR, cS, gT_wI, gR_wI, gL_wI, gS_wI, gU_wI, gI_wI, gJ_wI, gI_wJ, gJ_wJ, gR_wJ, gT_wJ, gL_wJ, gS_wJ, gU_wJ, gI_wR, gJ_wR, gR_wR, gT_wR, gL_wR, gS_wR, gU_wR, wI_wI, wJ_wJ, wR_wR, j_s, j_add, j_addL, j_addR, j_mulL, j_mulR, j_cl, j_clL, j_neg, j_negL, j_nn, j_lt, j_le, j_eq, j_ltL, j_ltR, j_leL, j_leR, j_eqL, j_eqR, j_m1, j_m1L, j_m1R, j_eqLL, j_ltLL, j_leLL, n_le0, n_le1, n_lt0, n_lt1, gc_v, gc_n, ↓reduceIte, and_true, true_and, and_self, or_self, or_false, false_or, not_false_eq_true, not_true_eq_false, false_and, and_false, Nat.reduceAdd, Nat.reduceEqDiff, Nat.reduceLeDiff, Nat.reduceLT]
    rfl
  · intro i hi x hxx
    try dsimp only
    rw [s235_4]
    by_cases c1 : r (14 + i) = -1
    · simp (disch := first | omega | assumption) only [hm.t, m_r39 hm, m_t39 hm, m_l39 hm, iB, iN, iG, iK, iR, cS, c1, s235_45, gT_wI, gR_wI, gL_wI, gS_wI, gU_wI, gI_wI, gJ_wI, gI_wJ, gJ_wJ, gR_wJ, gT_wJ, gL_wJ, gS_wJ, gU_wJ, gI_wR, gJ_wR, gR_wR, gT_wR, gL_wR, gS_wR, gU_wR, wI_wI, wJ_wJ, wR_wR, j_s, j_add, j_addL, j_addR, j_mulL, j_mulR, j_cl, j_clL, j_neg, j_negL, j_nn, j_lt, j_le, j_eq, j_ltL, j_ltR, j_leL, j_leR, j_eqL, j_eqR, j_m1, j_m1L, j_m1R, j_eqLL, j_ltLL, j_leLL, n_le0, n_le1, n_lt0, n_lt1, gc_v, gc_n, ↓reduceIte, and_true, true_and, and_self, or_self, or_false, false_or, not_false_eq_true, not_true_eq_false, false_and, and_false, Nat.reduceAdd, Nat.reduceEqDiff, Nat.reduceLeDiff, Nat.reduceLT]
      rcases hxx with z | ⟨q, z1, z2⟩
      · first | exact ⟨i, by omega, rfl⟩ | exact ⟨q, by omega, rfl⟩ | exact Or.inl z | exact ⟨trivial, Or.inl z⟩
      · first | exact ⟨i, by omega, rfl⟩ | exact ⟨q, by omega, rfl⟩ | exact Or.inr ⟨q, by omega, z2⟩ | exact ⟨trivial, Or.inr ⟨q, by omega, z2⟩⟩
    · rcases hxx with z | ⟨q, z1, z2⟩
      · simp (disch := first | omega | assumption) only [hm.t, m_r39 hm, m_t39 hm, m_l39 hm, iB, iN, iG, iK, iR, cS, c1, z, s235_43, s235_45, gT_wI, gR_wI, gL_wI, gS_wI, gU_wI, gI_wI, gJ_wI, gI_wJ, gJ_wJ, gR_wJ, gT_wJ, gL_wJ, gS_wJ, gU_wJ, gI_wR, gJ_wR, gR_wR, gT_wR, gL_wR, gS_wR, gU_wR, wI_wI, wJ_wJ, wR_wR, j_s, j_add, j_addL, j_addR, j_mulL, j_mulR, j_cl, j_clL, j_neg, j_negL, j_nn, j_lt, j_le, j_eq, j_ltL, j_ltR, j_leL, j_leR, j_eqL, j_eqR, j_m1, j_m1L, j_m1R, j_eqLL, j_ltLL, j_leLL, n_le0, n_le1, n_lt0, n_lt1, gc_v, gc_n, ↓reduceIte, and_true, true_and, and_self, or_self, or_false, false_or, not_false_eq_true, not_true_eq_false, false_and, and_false, Nat.reduceAdd, Nat.reduceEqDiff, Nat.reduceLeDiff, Nat.reduceLT]
        first | exact ⟨i, by omega, rfl⟩ | exact ⟨q, by omega, rfl⟩ | exact Or.inr ⟨i, by omega, rfl⟩ | exact ⟨trivial, Or.inr ⟨i, by omega, rfl⟩⟩
      · by_cases c2 : pGain r i ≤ pGain r q
        · simp (disch := first | omega | assumption) only [hm.t, m_r39 hm, m_t39 hm, m_l39 hm, iB, iN, iG, iK, iR, cS, c1, z2, c2, sp222 (d := d) (by omega) hm hx hr, s235_35, s235_40, s235_43, s235_45, gT_wI, gR_wI, gL_wI, gS_wI, gU_wI, gI_wI, gJ_wI, gI_wJ, gJ_wJ, gR_wJ, gT_wJ, gL_wJ, gS_wJ, gU_wJ, gI_wR, gJ_wR, gR_wR, gT_wR, gL_wR, gS_wR, gU_wR, wI_wI, wJ_wJ, wR_wR, j_s, j_add, j_addL, j_addR, j_mulL, j_mulR, j_cl, j_clL, j_neg, j_negL, j_nn, j_lt, j_le, j_eq, j_ltL, j_ltR, j_leL, j_leR, j_eqL, j_eqR, j_m1, j_m1L, j_m1R, j_eqLL, j_ltLL, j_leLL, n_le0, n_le1, n_lt0, n_lt1, gc_v, gc_n, ↓reduceIte, and_true, true_and, and_self, or_self, or_false, false_or, not_false_eq_true, not_true_eq_false, false_and, and_false, Nat.reduceAdd, Nat.reduceEqDiff, Nat.reduceLeDiff, Nat.reduceLT]
          first | exact ⟨i, by omega, rfl⟩ | exact ⟨q, by omega, rfl⟩ | exact Or.inr ⟨q, by omega, rfl⟩ | exact ⟨trivial, Or.inr ⟨q, by omega, rfl⟩⟩
        · simp (disch := first | omega | assumption) only [hm.t, m_r39 hm, m_t39 hm, m_l39 hm, iB, iN, iG, iK, iR, cS, c1, z2, c2, sp222 (d := d) (by omega) hm hx hr, s235_35, s235_40, s235_43, s235_45, gT_wI, gR_wI, gL_wI, gS_wI, gU_wI, gI_wI, gJ_wI, gI_wJ, gJ_wJ, gR_wJ, gT_wJ, gL_wJ, gS_wJ, gU_wJ, gI_wR, gJ_wR, gR_wR, gT_wR, gL_wR, gS_wR, gU_wR, wI_wI, wJ_wJ, wR_wR, j_s, j_add, j_addL, j_addR, j_mulL, j_mulR, j_cl, j_clL, j_neg, j_negL, j_nn, j_lt, j_le, j_eq, j_ltL, j_ltR, j_leL, j_leR, j_eqL, j_eqR, j_m1, j_m1L, j_m1R, j_eqLL, j_ltLL, j_leLL, n_le0, n_le1, n_lt0, n_lt1, gc_v, gc_n, ↓reduceIte, and_true, true_and, and_self, or_self, or_false, false_or, not_false_eq_true, not_true_eq_false, false_and, and_false, Nat.reduceAdd, Nat.reduceEqDiff, Nat.reduceLeDiff, Nat.reduceLT]
          first | exact ⟨i, by omega, rfl⟩ | exact Or.inr ⟨i, by omega, rfl⟩
theorem sp228 {d : Nat} {h : gd_H} (hd : 1 ≤ d) (v : Int32) : run gd_P0 d 228 [.int v] h = some (.inl (some (.int (jmin 999 v))), h) := by
  obtain ⟨d, rfl⟩ : ∃ e, d = e + 1 := ⟨d - 1, by omega⟩
  rw [r228, s228_0, ← jh9]
  by_cases c : v ≤ 999
  · rw [if_pos c, if_pos c, s228_14]
  · rw [if_neg c, if_neg c, s228_14]
theorem sp229 {d : Nat} {h : gd_H} {E : gdE} {al : Int32} {r : gdR} (hd : 2 ≤ d) (hm : MS h) (hx : MC (gI h) E al r) {m : Nat} (e : r 49 = Int32.ofNat m) (hm2 : m < 1000000) (k : Nat) (hk : k < eB E) : run gd_P0 d 229 [.ref 1231, .int (Int32.ofNat k)] h = some (.inl (some (.int (jmax 0 ((eG E k + pRain E al r) / 4 - r 48)))), h) := by
  obtain ⟨d, rfl⟩ : ∃ e, d = e + 1 := ⟨d - 1, by omega⟩
  obtain ⟨⟨hB, hN⟩, ⟨iB, iN, iA⟩, iG, iK, iR, cS⟩ := id hx
  rw [r229, s229_0, ← jx0]
  by_cases c : 0 ≤ (eG E k + pRain E al r) / 4 - r 48
  · simp (disch := first | omega | assumption) only [hm.t, m_r14 hm, m_t14 hm, m_l14 hm, m_r39 hm, m_t39 hm, m_l39 hm, iB, iN, iG, iK, iR, cS, sp221 (d := d) (by omega) hm hx e hm2, s229_14, s229_35, c, gT_wI, gR_wI, gL_wI, gS_wI, gU_wI, gI_wI, gJ_wI, gI_wJ, gJ_wJ, gR_wJ, gT_wJ, gL_wJ, gS_wJ, gU_wJ, gI_wR, gJ_wR, gR_wR, gT_wR, gL_wR, gS_wR, gU_wR, wI_wI, wJ_wJ, wR_wR, j_s, j_add, j_addL, j_addR, j_mulL, j_mulR, j_cl, j_clL, j_neg, j_negL, j_nn, j_lt, j_le, j_eq, j_ltL, j_ltR, j_leL, j_leR, j_eqL, j_eqR, j_m1, j_m1L, j_m1R, j_eqLL, j_ltLL, j_leLL, n_le0, n_le1, n_lt0, n_lt1, gc_v, gc_n, ↓reduceIte, and_true, true_and, and_self, or_self, or_false, false_or, not_false_eq_true, not_true_eq_false, false_and, and_false, Nat.reduceAdd, Nat.reduceEqDiff, Nat.reduceLeDiff, Nat.reduceLT]
  · simp (disch := first | omega | assumption) only [hm.t, m_r14 hm, m_t14 hm, m_l14 hm, m_r39 hm, m_t39 hm, m_l39 hm, iB, iN, iG, iK, iR, cS, sp221 (d := d) (by omega) hm hx e hm2, s229_14, s229_35, c, gT_wI, gR_wI, gL_wI, gS_wI, gU_wI, gI_wI, gJ_wI, gI_wJ, gJ_wJ, gR_wJ, gT_wJ, gL_wJ, gS_wJ, gU_wJ, gI_wR, gJ_wR, gR_wR, gT_wR, gL_wR, gS_wR, gU_wR, wI_wI, wJ_wJ, wR_wR, j_s, j_add, j_addL, j_addR, j_mulL, j_mulR, j_cl, j_clL, j_neg, j_negL, j_nn, j_lt, j_le, j_eq, j_ltL, j_ltR, j_leL, j_leR, j_eqL, j_eqR, j_m1, j_m1L, j_m1R, j_eqLL, j_ltLL, j_leLL, n_le0, n_le1, n_lt0, n_lt1, gc_v, gc_n, ↓reduceIte, and_true, true_and, and_self, or_self, or_false, false_or, not_false_eq_true, not_true_eq_false, false_and, and_false, Nat.reduceAdd, Nat.reduceEqDiff, Nat.reduceLeDiff, Nat.reduceLT]
theorem sp217 {d : Nat} {h : gd_H} {E : gdE} {al : Int32} {r : gdR} (hd : 1 ≤ d) (hm : MS h) (hx : MC (gI h) E al r) (j : Nat) (hj : j < 50) (v : Int32) : ∃ I' : Nat → Nat → Int32, run gd_P0 d 217 [.ref 1231, .int (Int32.ofNat j), .int v] h = some (.inl (some (.int (if r j = v then 0 else 1))), wI h I') ∧ MC I' E al (rw1 r j v) ∧ ∀ b, b ≠ 1251 → I' b = gI h b := by
  obtain ⟨d, rfl⟩ : ∃ e, d = e + 1 := ⟨d - 1, by omega⟩
  obtain ⟨⟨hB, hN⟩, ⟨iB, iN, iA⟩, iG, iK, iR, cS⟩ := id hx
  rw [r217, s217_0]
  by_cases c : r j = v
  · refine ⟨gI h, ?_, ?_, fun b _ => rfl⟩
    · simp (disch := first | omega | assumption) only [hm.t, m_r39 hm, m_t39 hm, m_l39 hm, iB, iN, iG, iK, iR, cS, c, gT_wI, gR_wI, gL_wI, gS_wI, gU_wI, gI_wI, gJ_wI, gI_wJ, gJ_wJ, gR_wJ, gT_wJ, gL_wJ, gS_wJ, gU_wJ, gI_wR, gJ_wR, gR_wR, gT_wR, gL_wR, gS_wR, gU_wR, wI_wI, wJ_wJ, wR_wR, j_s, j_add, j_addL, j_addR, j_mulL, j_mulR, j_cl, j_clL, j_neg, j_negL, j_nn, j_lt, j_le, j_eq, j_ltL, j_ltR, j_leL, j_leR, j_eqL, j_eqR, j_m1, j_m1L, j_m1R, j_eqLL, j_ltLL, j_leLL, n_le0, n_le1, n_lt0, n_lt1, gc_v, gc_n, ↓reduceIte, and_true, true_and, and_self, or_self, or_false, false_or, not_false_eq_true, not_true_eq_false, false_and, and_false, Nat.reduceAdd, Nat.reduceEqDiff, Nat.reduceLeDiff, Nat.reduceLT]
      rfl
    · rw [rw1_id c]; exact hx
  · refine ⟨up1 (gI h) 1251 j v, ?_, hx.w hj v, fun b hb => up1_nc _ _ _ hb⟩
    simp (disch := first | omega | assumption) only [hm.t, m_r39 hm, m_t39 hm, m_l39 hm, iB, iN, iG, iK, iR, cS, c, gT_wI, gR_wI, gL_wI, gS_wI, gU_wI, gI_wI, gJ_wI, gI_wJ, gJ_wJ, gR_wJ, gT_wJ, gL_wJ, gS_wJ, gU_wJ, gI_wR, gJ_wR, gR_wR, gT_wR, gL_wR, gS_wR, gU_wR, wI_wI, wJ_wJ, wR_wR, j_s, j_add, j_addL, j_addR, j_mulL, j_mulR, j_cl, j_clL, j_neg, j_negL, j_nn, j_lt, j_le, j_eq, j_ltL, j_ltR, j_leL, j_leR, j_eqL, j_eqR, j_m1, j_m1L, j_m1R, j_eqLL, j_ltLL, j_leLL, n_le0, n_le1, n_lt0, n_lt1, gc_v, gc_n, ↓reduceIte, and_true, true_and, and_self, or_self, or_false, false_or, not_false_eq_true, not_true_eq_false, false_and, and_false, Nat.reduceAdd, Nat.reduceEqDiff, Nat.reduceLeDiff, Nat.reduceLT]
theorem sp214 {d : Nat} {h : gd_H} {E : gdE} {al : Int32} {r : gdR} (hd : 3 ≤ d) (hm : MS h) (hx : MC (gI h) E al r) {m : Nat} (hr : RI E m r) (p : Nat) (hp : p < 7) : ∃ I' : Nat → Nat → Int32, run gd_P0 d 214 [.ref 1231, .int (Int32.ofNat p)] h = some (.inl (some (.int (if pNoB E r p = true then 1 else 0))), wI h I') ∧ MC I' E al (if pNoB E r p = true then pNo E r p else r) ∧ ∀ b, b ≠ 1251 → I' b = gI h b := by
  obtain ⟨d, rfl⟩ : ∃ e, d = e + 1 := ⟨d - 1, by omega⟩
  obtain ⟨⟨hB, hN⟩, ⟨iB, iN, iA⟩, iG, iK, iR, cS⟩ := id hx
  rw [r214, s214_0]
  by_cases c0 : r (35 + p) = 1
  · by_cases c1 : pLi E r (r p) = -1
    · have c3 : pNoB E r p = false := decide_eq_false (fun z => z.2 c1)
      refine ⟨gI h, ?_, ?_, fun b _ => rfl⟩
      · simp (disch := first | omega | assumption) only [hm.t, m_r39 hm, m_t39 hm, m_l39 hm, iB, iN, iG, iK, iR, cS, c0, c1, c3, sp215 (d := d) (by omega) hm hx, s214_25, s214_29, Nat.zero_add, Bool.false_eq_true, gT_wI, gR_wI, gL_wI, gS_wI, gU_wI, gI_wI, gJ_wI, gI_wJ, gJ_wJ, gR_wJ, gT_wJ, gL_wJ, gS_wJ, gU_wJ, gI_wR, gJ_wR, gR_wR, gT_wR, gL_wR, gS_wR, gU_wR, wI_wI, wJ_wJ, wR_wR, j_s, j_add, j_addL, j_addR, j_mulL, j_mulR, j_cl, j_clL, j_neg, j_negL, j_nn, j_lt, j_le, j_eq, j_ltL, j_ltR, j_leL, j_leR, j_eqL, j_eqR, j_m1, j_m1L, j_m1R, j_eqLL, j_ltLL, j_leLL, n_le0, n_le1, n_lt0, n_lt1, gc_v, gc_n, ↓reduceIte, and_true, true_and, and_self, or_self, or_false, false_or, not_false_eq_true, not_true_eq_false, false_and, and_false, Nat.reduceAdd, Nat.reduceEqDiff, Nat.reduceLeDiff, Nat.reduceLT]
        rfl
      · rw [c3]; exact hx
    · have c3 : pNoB E r p = true := decide_eq_true ⟨c0, c1⟩
      obtain ⟨k, hk, e⟩ : ∃ k, k < eB E ∧ pLi E r (r p) = Int32.ofNat k := by
        rcases pLi_or E r (r p) with ⟨z, -⟩ | ⟨k, z1, z2, -⟩
        · exact absurd z c1
        · exact ⟨k, z1, z2⟩
      have hx2 := hx.w (k := 14 + p) (by omega) (Int32.ofNat k)
      refine ⟨up1 (up1 (up1 (gI h) 1251 (14 + p) (Int32.ofNat k)) 1251 (21 + p) (r p - pb r k)) 1251 (28 + p) (r 49), ?_, ?_, fun b hb => by rw [up1_nc _ _ _ hb, up1_nc _ _ _ hb, up1_nc _ _ _ hb]⟩
      · simp (disch := first | omega | assumption) only [hm.t, m_r39 hm, m_t39 hm, m_l39 hm, iB, iN, iG, iK, iR, cS, c0, e, c3, sp215 (d := d) (by omega) hm hx, s214_25, s214_29, Nat.zero_add, up1_nj, gT_wI, gR_wI, gL_wI, gS_wI, gU_wI, gI_wI, gJ_wI, gI_wJ, gJ_wJ, gR_wJ, gT_wJ, gL_wJ, gS_wJ, gU_wJ, gI_wR, gJ_wR, gR_wR, gT_wR, gL_wR, gS_wR, gU_wR, wI_wI, wJ_wJ, wR_wR, j_s, j_add, j_addL, j_addR, j_mulL, j_mulR, j_cl, j_clL, j_neg, j_negL, j_nn, j_lt, j_le, j_eq, j_ltL, j_ltR, j_leL, j_leR, j_eqL, j_eqR, j_m1, j_m1L, j_m1R, j_eqLL, j_ltLL, j_leLL, n_le0, n_le1, n_lt0, n_lt1, gc_v, gc_n, ↓reduceIte, and_true, true_and, and_self, or_self, or_false, false_or, not_false_eq_true, not_true_eq_false, false_and, and_false, Nat.reduceAdd, Nat.reduceEqDiff, Nat.reduceLeDiff, Nat.reduceLT]
        have e216 := sp216 (d := d) (by omega) (hm.wI _) (show MC (gI (wI h (up1 (gI h) 1251 (14 + p) (Int32.ofNat k)))) E al _ from hx2) k (by omega)
        rw [show pb (rw1 r (14 + p) (Int32.ofNat k)) k = pb r k from fo_congr (fun i hi x => by rw [rw1_ne _ _ (by omega)]) 0] at e216
        rw [e216]
        simp (disch := first | omega | assumption) only [hm.t, m_r39 hm, m_t39 hm, m_l39 hm, iB, iN, iG, iK, iR, cS, up1_nj, s214_68, gT_wI, gR_wI, gL_wI, gS_wI, gU_wI, gI_wI, gJ_wI, gI_wJ, gJ_wJ, gR_wJ, gT_wJ, gL_wJ, gS_wJ, gU_wJ, gI_wR, gJ_wR, gR_wR, gT_wR, gL_wR, gS_wR, gU_wR, wI_wI, wJ_wJ, wR_wR, j_s, j_add, j_addL, j_addR, j_mulL, j_mulR, j_cl, j_clL, j_neg, j_negL, j_nn, j_lt, j_le, j_eq, j_ltL, j_ltR, j_leL, j_leR, j_eqL, j_eqR, j_m1, j_m1L, j_m1R, j_eqLL, j_ltLL, j_leLL, n_le0, n_le1, n_lt0, n_lt1, gc_v, gc_n, ↓reduceIte, and_true, true_and, and_self, or_self, or_false, false_or, not_false_eq_true, not_true_eq_false, false_and, and_false, Nat.reduceAdd, Nat.reduceEqDiff, Nat.reduceLeDiff, Nat.reduceLT]
      · rw [c3, if_pos rfl]
        have h3 := (hx2.w (k := 21 + p) (by omega) (r p - pb r k)).w (k := 28 + p) (by omega) (r 49)
        unfold pNo
        rw [e, j_cl (by omega)]
        exact h3
  · have c3 : pNoB E r p = false := decide_eq_false (fun z => c0 z.1)
    refine ⟨gI h, ?_, ?_, fun b _ => rfl⟩
    · simp (disch := first | omega | assumption) only [hm.t, m_r39 hm, m_t39 hm, m_l39 hm, iB, iN, iG, iK, iR, cS, c0, c3, s214_29, Bool.false_eq_true, gT_wI, gR_wI, gL_wI, gS_wI, gU_wI, gI_wI, gJ_wI, gI_wJ, gJ_wJ, gR_wJ, gT_wJ, gL_wJ, gS_wJ, gU_wJ, gI_wR, gJ_wR, gR_wR, gT_wR, gL_wR, gS_wR, gU_wR, wI_wI, wJ_wJ, wR_wR, j_s, j_add, j_addL, j_addR, j_mulL, j_mulR, j_cl, j_clL, j_neg, j_negL, j_nn, j_lt, j_le, j_eq, j_ltL, j_ltR, j_leL, j_leR, j_eqL, j_eqR, j_m1, j_m1L, j_m1R, j_eqLL, j_ltLL, j_leLL, n_le0, n_le1, n_lt0, n_lt1, gc_v, gc_n, ↓reduceIte, and_true, true_and, and_self, or_self, or_false, false_or, not_false_eq_true, not_true_eq_false, false_and, and_false, Nat.reduceAdd, Nat.reduceEqDiff, Nat.reduceLeDiff, Nat.reduceLT]
      rfl
    · rw [c3]; exact hx
theorem sp218 {d : Nat} {h : gd_H} {E : gdE} {al : Int32} {r : gdR} (hd : 1 ≤ d) (hm : MS h) (hx : MC (gI h) E al r) (k : Nat) (hk : k < 6) (n : Nat) : ∃ I' : Nat → Nat → Int32, run gd_P0 d 218 [.ref 1231, .int (Int32.ofNat k), .int (Int32.ofNat n)] h = some (.inl (some (.int (if Int32.ofNat n < r (42 + k) then 1 else 0))), wI h I') ∧ MC I' E al (if Int32.ofNat n < r (42 + k) then pPl E r k (Int32.ofNat n) else r) ∧ ∀ b, b ≠ 1251 → I' b = gI h b := by
  obtain ⟨d, rfl⟩ : ∃ e, d = e + 1 := ⟨d - 1, by omega⟩
  obtain ⟨⟨hB, hN⟩, ⟨iB, iN, iA⟩, iG, iK, iR, cS⟩ := id hx
  rw [r218, s218_0]
  by_cases c : Int32.ofNat n < r (42 + k)
  · rw [if_pos c, if_pos c]
    have L := lp_e (fun i I => go gd_P0 d 218 30 [.ref 1231, .int (Int32.ofNat k), .null, .int (Int32.ofNat i)] [] (wI h I)) (fun i I => MC I E al (pPlI r k (Int32.ofNat n) i) ∧ ∀ b, b ≠ 1251 → I b = gI h b) (eN E) (up1 (gI h) 1251 (42 + k) (r (42 + k) - Int32.ofNat n)) ⟨?_, fun b hb => up1_nc _ _ _ hb⟩ ?_
    · obtain ⟨I', e1, e2, e3⟩ := L
      refine ⟨I', ?_, e2, e3⟩
      simp (disch := first | omega | assumption) only [hm.t, m_r39 hm, m_t39 hm, m_l39 hm, iB, iN, iG, iK, iR, cS, c, gT_wI, gR_wI, gL_wI, gS_wI, gU_wI, gI_wI, gJ_wI, gI_wJ, gJ_wJ, gR_wJ, gT_wJ, gL_wJ, gS_wJ, gU_wJ, gI_wR, gJ_wR, gR_wR, gT_wR, gL_wR, gS_wR, gU_wR, wI_wI, wJ_wJ, wR_wR, j_s, j_add, j_addL, j_addR, j_mulL, j_mulR, j_cl, j_clL, j_neg, j_negL, j_nn, j_lt, j_le, j_eq, j_ltL, j_ltR, j_leL, j_leR, j_eqL, j_eqR, j_m1, j_m1L, j_m1R, j_eqLL, j_ltLL, j_leLL, n_le0, n_le1, n_lt0, n_lt1, gc_v, gc_n, ↓reduceIte, and_true, true_and, and_self, or_self, or_false, false_or, not_false_eq_true, not_true_eq_false, false_and, and_false, Nat.reduceAdd, Nat.reduceEqDiff, Nat.reduceLeDiff, Nat.reduceLT]
      refine Eq.trans ?_ (e1.trans ?_)
      · exact (s218_30 ..).trans (s218_30 ..).symm
      · try dsimp only
        obtain ⟨⟨hB, hN⟩, ⟨iB, iN, -⟩, -⟩ := id e2
        rw [s218_30]
        simp (disch := first | omega | assumption) only [hm.t, m_r39 hm, m_t39 hm, m_l39 hm, iB, iN, gT_wI, gR_wI, gL_wI, gS_wI, gU_wI, gI_wI, gJ_wI, gI_wJ, gJ_wJ, gR_wJ, gT_wJ, gL_wJ, gS_wJ, gU_wJ, gI_wR, gJ_wR, gR_wR, gT_wR, gL_wR, gS_wR, gU_wR, wI_wI, wJ_wJ, wR_wR, j_s, j_add, j_addL, j_addR, j_mulL, j_mulR, j_cl, j_clL, j_neg, j_negL, j_nn, j_lt, j_le, j_eq, j_ltL, j_ltR, j_leL, j_leR, j_eqL, j_eqR, j_m1, j_m1L, j_m1R, j_eqLL, j_ltLL, j_leLL, n_le0, n_le1, n_lt0, n_lt1, gc_v, gc_n, ↓reduceIte, and_true, true_and, and_self, or_self, or_false, false_or, not_false_eq_true, not_true_eq_false, false_and, and_false, Nat.reduceAdd, Nat.reduceEqDiff, Nat.reduceLeDiff, Nat.reduceLT]
    · rw [pPlI_0]
      exact hx.w (k := 42 + k) (by omega) (r (42 + k) - Int32.ofNat n)
    · intro i hi I hI
      try dsimp only
      obtain ⟨hx, hfr⟩ := hI
      obtain ⟨⟨hB, hN⟩, ⟨iB, iN, iA⟩, iG, iK, iR, cS⟩ := id hx
      have o1 : I 1251 (14 + i) = r (14 + i) := (cS _ (by omega)).trans (by unfold pPlI; rw [if_neg (by omega), if_neg (by omega)])
      have a1 : I 1251 (21 + i) = r (21 + i) := (cS _ (by omega)).trans (by unfold pPlI; rw [if_neg (by omega), if_neg (by omega)])
      have t1 : I 1251 (42 + k) = r (42 + k) - Int32.ofNat n := (cS _ (by omega)).trans (by unfold pPlI; rw [if_pos rfl])
      rw [s218_30]
      by_cases c3 : r (14 + i) = Int32.ofNat k
      · by_cases c4 : r (21 + i) ≤ r (42 + k) - Int32.ofNat n
        · have c5 : jmin (r (21 + i)) (r (42 + k) - Int32.ofNat n) = r (21 + i) := if_neg (Int32.not_lt.mpr c4)
          refine ⟨I, ?_, ?_, hfr⟩
          · simp (disch := first | omega | assumption) only [hm.t, m_r39 hm, m_t39 hm, m_l39 hm, iN, o1, a1, t1, c3, c4, s218_90, gT_wI, gR_wI, gL_wI, gS_wI, gU_wI, gI_wI, gJ_wI, gI_wJ, gJ_wJ, gR_wJ, gT_wJ, gL_wJ, gS_wJ, gU_wJ, gI_wR, gJ_wR, gR_wR, gT_wR, gL_wR, gS_wR, gU_wR, wI_wI, wJ_wJ, wR_wR, j_s, j_add, j_addL, j_addR, j_mulL, j_mulR, j_cl, j_clL, j_neg, j_negL, j_nn, j_lt, j_le, j_eq, j_ltL, j_ltR, j_leL, j_leR, j_eqL, j_eqR, j_m1, j_m1L, j_m1R, j_eqLL, j_ltLL, j_leLL, n_le0, n_le1, n_lt0, n_lt1, gc_v, gc_n, ↓reduceIte, and_true, true_and, and_self, or_self, or_false, false_or, not_false_eq_true, not_true_eq_false, false_and, and_false, Nat.reduceAdd, Nat.reduceEqDiff, Nat.reduceLeDiff, Nat.reduceLT]
          · rw [pPlI_y _ (by omega) c3, c5, rw1_id (by unfold pPlI; rw [if_neg (by omega), if_neg (by omega)])]
            exact hx
        · have c5 : jmin (r (21 + i)) (r (42 + k) - Int32.ofNat n) = r (42 + k) - Int32.ofNat n := if_pos (Int32.not_le.mp c4)
          refine ⟨up1 I 1251 (21 + i) (r (42 + k) - Int32.ofNat n), ?_, ?_, fun b hb => by rw [up1_nc _ _ _ hb]; exact hfr b hb⟩
          · simp (disch := first | omega | assumption) only [hm.t, m_r39 hm, m_t39 hm, m_l39 hm, iN, o1, a1, t1, c3, c4, s218_90, gT_wI, gR_wI, gL_wI, gS_wI, gU_wI, gI_wI, gJ_wI, gI_wJ, gJ_wJ, gR_wJ, gT_wJ, gL_wJ, gS_wJ, gU_wJ, gI_wR, gJ_wR, gR_wR, gT_wR, gL_wR, gS_wR, gU_wR, wI_wI, wJ_wJ, wR_wR, j_s, j_add, j_addL, j_addR, j_mulL, j_mulR, j_cl, j_clL, j_neg, j_negL, j_nn, j_lt, j_le, j_eq, j_ltL, j_ltR, j_leL, j_leR, j_eqL, j_eqR, j_m1, j_m1L, j_m1R, j_eqLL, j_ltLL, j_leLL, n_le0, n_le1, n_lt0, n_lt1, gc_v, gc_n, ↓reduceIte, and_true, true_and, and_self, or_self, or_false, false_or, not_false_eq_true, not_true_eq_false, false_and, and_false, Nat.reduceAdd, Nat.reduceEqDiff, Nat.reduceLeDiff, Nat.reduceLT]
          · rw [pPlI_y _ (by omega) c3, c5]
            exact hx.w (k := 21 + i) (by omega) (r (42 + k) - Int32.ofNat n)
      · refine ⟨I, ?_, ?_, hfr⟩
        · simp (disch := first | omega | assumption) only [hm.t, m_r39 hm, m_t39 hm, m_l39 hm, iN, o1, c3, s218_90, gT_wI, gR_wI, gL_wI, gS_wI, gU_wI, gI_wI, gJ_wI, gI_wJ, gJ_wJ, gR_wJ, gT_wJ, gL_wJ, gS_wJ, gU_wJ, gI_wR, gJ_wR, gR_wR, gT_wR, gL_wR, gS_wR, gU_wR, wI_wI, wJ_wJ, wR_wR, j_s, j_add, j_addL, j_addR, j_mulL, j_mulR, j_cl, j_clL, j_neg, j_negL, j_nn, j_lt, j_le, j_eq, j_ltL, j_ltR, j_leL, j_leR, j_eqL, j_eqR, j_m1, j_m1L, j_m1R, j_eqLL, j_ltLL, j_leLL, n_le0, n_le1, n_lt0, n_lt1, gc_v, gc_n, ↓reduceIte, and_true, true_and, and_self, or_self, or_false, false_or, not_false_eq_true, not_true_eq_false, false_and, and_false, Nat.reduceAdd, Nat.reduceEqDiff, Nat.reduceLeDiff, Nat.reduceLT]
        · rw [pPlI_n _ c3]
          exact hx
  · rw [if_neg c, if_neg c]
    refine ⟨gI h, ?_, hx, fun b _ => rfl⟩
    simp (disch := first | omega | assumption) only [hm.t, m_r39 hm, m_t39 hm, m_l39 hm, iB, iN, iG, iK, iR, cS, c, gT_wI, gR_wI, gL_wI, gS_wI, gU_wI, gI_wI, gJ_wI, gI_wJ, gJ_wJ, gR_wJ, gT_wJ, gL_wJ, gS_wJ, gU_wJ, gI_wR, gJ_wR, gR_wR, gT_wR, gL_wR, gS_wR, gU_wR, wI_wI, wJ_wJ, wR_wR, j_s, j_add, j_addL, j_addR, j_mulL, j_mulR, j_cl, j_clL, j_neg, j_negL, j_nn, j_lt, j_le, j_eq, j_ltL, j_ltR, j_leL, j_leR, j_eqL, j_eqR, j_m1, j_m1L, j_m1R, j_eqLL, j_ltLL, j_leLL, n_le0, n_le1, n_lt0, n_lt1, gc_v, gc_n, ↓reduceIte, and_true, true_and, and_self, or_self, or_false, false_or, not_false_eq_true, not_true_eq_false, false_and, and_false, Nat.reduceAdd, Nat.reduceEqDiff, Nat.reduceLeDiff, Nat.reduceLT]
    rfl
theorem sp220 {d : Nat} {h : gd_H} {E : gdE} {al : Int32} {r : gdR} (hd : 8 ≤ d) (hm : MS h) (hx : MC (gI h) E al r) {m : Nat} (hr : RI E m r) (hm2 : m < 1000000) (hE : EI E) (hl : LWm h (eL E)) (p : Nat) (hp : p < 7) : ∃ I' : Nat → Nat → Int32, run gd_P0 d 220 [.ref 1231, .int (Int32.ofNat p)] h = some (.inl (some (.int (pGr E al r p))), wI h I') ∧ ∀ b, b ≠ 1246 → b ≠ 1247 → I' b = gI h b := by
  obtain ⟨d, rfl⟩ : ∃ e, d = e + 1 := ⟨d - 1, by omega⟩
  obtain ⟨⟨hB, hN⟩, ⟨iB, iN, iA⟩, iG, iK, iR, cS⟩ := id hx
  obtain ⟨d, rfl⟩ : ∃ e, d = e + 1 := ⟨d - 1, by omega⟩
  have L := lp_f (fun i x => go gd_P0 (d + 1) 220 4 [.ref 1231, .int (Int32.ofNat p), .int x, .int (Int32.ofNat i)] [] h) (fun q n => if (eK E p >>> (Int32.ofNat q &&& 31)) &&& 1 = 1 ∧ r p < r q then n + 1 else n) (eN E) 0 ?_
  · obtain ⟨I', e1, e2⟩ := hl d (sgt (gI h) 1247 (pFa E al r p)) (by omega) (sgt_ne _ _ (by omega)) (sgt_ne _ _ (by omega)) (by rw [sgt_ne _ _ (by omega)])
    refine ⟨I', ?_, fun b h1 h2 => (e2 b h1).trans (sgt_ne _ _ h2)⟩
    rw [hE.2.2 _ (pFa E al r p) (sgt_at (gI h) 1247 (pFa E al r p))] at e1
    rw [r220, s220_0]
    refine L.trans ?_
    try dsimp only
    have e5 := hr.2.2.1
    rw [s220_4]
    simp (disch := first | omega | assumption) only [hm.t, m_r16 hm, m_t16 hm, m_l16 hm, m_r39 hm, m_t39 hm, m_l39 hm, iB, iN, iG, iK, iR, cS, sp221 (d := d + 1) (by omega) hm hx e5 hm2, sp222 (d := d + 1) (by omega) hm hx hr, sp216 (d := d + 1) (by omega) hm hx, s220_82, s220_87, s220_105, Nat.zero_add, gT_wI, gR_wI, gL_wI, gS_wI, gU_wI, gI_wI, gJ_wI, gI_wJ, gJ_wJ, gR_wJ, gT_wJ, gL_wJ, gS_wJ, gU_wJ, gI_wR, gJ_wR, gR_wR, gT_wR, gL_wR, gS_wR, gU_wR, wI_wI, wJ_wJ, wR_wR, j_s, j_add, j_addL, j_addR, j_mulL, j_mulR, j_cl, j_clL, j_neg, j_negL, j_nn, j_lt, j_le, j_eq, j_ltL, j_ltR, j_leL, j_leR, j_eqL, j_eqR, j_m1, j_m1L, j_m1R, j_eqLL, j_ltLL, j_leLL, n_le0, n_le1, n_lt0, n_lt1, gc_v, gc_n, ↓reduceIte, and_true, true_and, and_self, or_self, or_false, false_or, not_false_eq_true, not_true_eq_false, false_and, and_false, Nat.reduceAdd, Nat.reduceEqDiff, Nat.reduceLeDiff, Nat.reduceLT]
    rw [r224, s224_0]
    simp (disch := first | omega | assumption) only [hm.t, m_r29 hm, m_t29 hm, m_l29 hm, gT_wI, gR_wI, gL_wI, gS_wI, gU_wI, gI_wI, gJ_wI, gI_wJ, gJ_wJ, gR_wJ, gT_wJ, gL_wJ, gS_wJ, gU_wJ, gI_wR, gJ_wR, gR_wR, gT_wR, gL_wR, gS_wR, gU_wR, wI_wI, wJ_wJ, wR_wR, j_s, j_add, j_addL, j_addR, j_mulL, j_mulR, j_cl, j_clL, j_neg, j_negL, j_nn, j_lt, j_le, j_eq, j_ltL, j_ltR, j_leL, j_leR, j_eqL, j_eqR, j_m1, j_m1L, j_m1R, j_eqLL, j_ltLL, j_leLL, n_le0, n_le1, n_lt0, n_lt1, gc_v, gc_n, ↓reduceIte, and_true, true_and, and_self, or_self, or_false, false_or, not_false_eq_true, not_true_eq_false, false_and, and_false, Nat.reduceAdd, Nat.reduceEqDiff, Nat.reduceLeDiff, Nat.reduceLT]
    refine Eq.trans (congrArg (fun o => gc gd_P0 (d + 1) 220 106 109 _ _ (gc gd_P0 d 224 64 67 _ _ o)) e1) ?_
    try dsimp only
    rw [gc_v, s224_67, gc_v, s220_109]
    rfl
  · intro i hi x
    try dsimp only
    rw [s220_4]
    by_cases c1 : (eK E p >>> (Int32.ofNat i &&& 31)) &&& 1 = 1
    · by_cases c2 : r i ≤ r p
      · simp (disch := first | omega | assumption) only [hm.t, m_r16 hm, m_t16 hm, m_l16 hm, m_r39 hm, m_t39 hm, m_l39 hm, iB, iN, iG, iK, iR, cS, c1, c2, Int32.not_lt.mpr c2, s220_50, s220_51, Nat.zero_add, Int32.add_zero, gT_wI, gR_wI, gL_wI, gS_wI, gU_wI, gI_wI, gJ_wI, gI_wJ, gJ_wJ, gR_wJ, gT_wJ, gL_wJ, gS_wJ, gU_wJ, gI_wR, gJ_wR, gR_wR, gT_wR, gL_wR, gS_wR, gU_wR, wI_wI, wJ_wJ, wR_wR, j_s, j_add, j_addL, j_addR, j_mulL, j_mulR, j_cl, j_clL, j_neg, j_negL, j_nn, j_lt, j_le, j_eq, j_ltL, j_ltR, j_leL, j_leR, j_eqL, j_eqR, j_m1, j_m1L, j_m1R, j_eqLL, j_ltLL, j_leLL, n_le0, n_le1, n_lt0, n_lt1, gc_v, gc_n, ↓reduceIte, and_true, true_and, and_self, or_self, or_false, false_or, not_false_eq_true, not_true_eq_false, false_and, and_false, Nat.reduceAdd, Nat.reduceEqDiff, Nat.reduceLeDiff, Nat.reduceLT]
      · simp (disch := first | omega | assumption) only [hm.t, m_r16 hm, m_t16 hm, m_l16 hm, m_r39 hm, m_t39 hm, m_l39 hm, iB, iN, iG, iK, iR, cS, c1, c2, Int32.not_le.mp c2, s220_50, s220_51, Nat.zero_add, gT_wI, gR_wI, gL_wI, gS_wI, gU_wI, gI_wI, gJ_wI, gI_wJ, gJ_wJ, gR_wJ, gT_wJ, gL_wJ, gS_wJ, gU_wJ, gI_wR, gJ_wR, gR_wR, gT_wR, gL_wR, gS_wR, gU_wR, wI_wI, wJ_wJ, wR_wR, j_s, j_add, j_addL, j_addR, j_mulL, j_mulR, j_cl, j_clL, j_neg, j_negL, j_nn, j_lt, j_le, j_eq, j_ltL, j_ltR, j_leL, j_leR, j_eqL, j_eqR, j_m1, j_m1L, j_m1R, j_eqLL, j_ltLL, j_leLL, n_le0, n_le1, n_lt0, n_lt1, gc_v, gc_n, ↓reduceIte, and_true, true_and, and_self, or_self, or_false, false_or, not_false_eq_true, not_true_eq_false, false_and, and_false, Nat.reduceAdd, Nat.reduceEqDiff, Nat.reduceLeDiff, Nat.reduceLT]
    · simp (disch := first | omega | assumption) only [hm.t, m_r16 hm, m_t16 hm, m_l16 hm, m_r39 hm, m_t39 hm, m_l39 hm, iB, iN, iG, iK, iR, cS, c1, s220_50, s220_51, Nat.zero_add, Int32.add_zero, gT_wI, gR_wI, gL_wI, gS_wI, gU_wI, gI_wI, gJ_wI, gI_wJ, gJ_wJ, gR_wJ, gT_wJ, gL_wJ, gS_wJ, gU_wJ, gI_wR, gJ_wR, gR_wR, gT_wR, gL_wR, gS_wR, gU_wR, wI_wI, wJ_wJ, wR_wR, j_s, j_add, j_addL, j_addR, j_mulL, j_mulR, j_cl, j_clL, j_neg, j_negL, j_nn, j_lt, j_le, j_eq, j_ltL, j_ltR, j_leL, j_leR, j_eqL, j_eqR, j_m1, j_m1L, j_m1R, j_eqLL, j_ltLL, j_leLL, n_le0, n_le1, n_lt0, n_lt1, gc_v, gc_n, ↓reduceIte, and_true, true_and, and_self, or_self, or_false, false_or, not_false_eq_true, not_true_eq_false, false_and, and_false, Nat.reduceAdd, Nat.reduceEqDiff, Nat.reduceLeDiff, Nat.reduceLT]
theorem sp219a {d : Nat} {h : gd_H} {E : gdE} {al : Int32} {r : gdR} (hd : 9 ≤ d) (hm : MS h) (hx : MC (gI h) E al r) {m : Nat} (hr : RI E m r) (hm2 : m < 1000000) (hE : EI E) (hl : LWm h (eL E)) : ∃ I' : Nat → Nat → Int32, go gd_P0 (d - 1) 219 2 [.ref 1231, .int 0] [] h = go gd_P0 (d - 1) 219 29 [.ref 1231, .int 0] [] (wI h I') ∧ (∀ b, b ≠ 1246 → b ≠ 1247 → b ≠ 1253 → I' b = gI h b) ∧ ∀ p, p < eN E → I' 1253 p = pGr E al r p := by
  obtain ⟨d, rfl⟩ : ∃ e, d = e + 1 := ⟨d - 1, by omega⟩
  obtain ⟨⟨hB, hN⟩, ⟨iB, iN, iA⟩, iG, iK, iR, cS⟩ := id hx
  show ∃ I' : Nat → Nat → Int32, go gd_P0 d 219 2 [.ref 1231, .int 0] [] h = go gd_P0 d 219 29 [.ref 1231, .int 0] [] (wI h I') ∧ _
  have L := lp_e (fun i I => go gd_P0 d 219 2 [.ref 1231, .int (Int32.ofNat i)] [] (wI h I)) (fun i I => (∀ b, b ≠ 1246 → b ≠ 1247 → b ≠ 1253 → I b = gI h b) ∧ ∀ p, p < i → I 1253 p = pGr E al r p) (eN E) (gI h) ⟨fun _ _ _ _ => rfl, fun p hp => absurd hp (Nat.not_lt_zero p)⟩ ?_
  · obtain ⟨I', e1, e2, e3⟩ := L
    refine ⟨I', e1.trans ?_, e2, e3⟩
    try dsimp only
    rw [s219_2]
    have iN2 : I' 1231 21 = Int32.ofNat (eN E) := by rw [e2 1231 (by omega) (by omega) (by omega)]; exact iN
    simp (disch := first | omega | assumption) only [hm.t, m_r39 hm, m_t39 hm, m_l39 hm, m_r41 hm, m_t41 hm, m_l41 hm, iN2, gT_wI, gR_wI, gL_wI, gS_wI, gU_wI, gI_wI, gJ_wI, gI_wJ, gJ_wJ, gR_wJ, gT_wJ, gL_wJ, gS_wJ, gU_wJ, gI_wR, gJ_wR, gR_wR, gT_wR, gL_wR, gS_wR, gU_wR, wI_wI, wJ_wJ, wR_wR, j_s, j_add, j_addL, j_addR, j_mulL, j_mulR, j_cl, j_clL, j_neg, j_negL, j_nn, j_lt, j_le, j_eq, j_ltL, j_ltR, j_leL, j_leR, j_eqL, j_eqR, j_m1, j_m1L, j_m1R, j_eqLL, j_ltLL, j_leLL, n_le0, n_le1, n_lt0, n_lt1, gc_v, gc_n, ↓reduceIte, and_true, true_and, and_self, or_self, or_false, false_or, not_false_eq_true, not_true_eq_false, false_and, and_false, Nat.reduceAdd, Nat.reduceEqDiff, Nat.reduceLeDiff, Nat.reduceLT]
  · intro i hi I hI
    try dsimp only
    obtain ⟨hI1, hI2⟩ := hI
    have hxI : MC I E al r := hx.fr (hI1 _ (by omega) (by omega) (by omega)) (hI1 _ (by omega) (by omega) (by omega)) (hI1 _ (by omega) (by omega) (by omega)) (hI1 _ (by omega) (by omega) (by omega)) (hI1 _ (by omega) (by omega) (by omega))
    have iN2 : I 1231 21 = Int32.ofNat (eN E) := by rw [hI1 1231 (by omega) (by omega) (by omega)]; exact iN
    obtain ⟨I2, f1, f2⟩ := sp220 (d := d) (by omega) (hm.wI I) hxI hr hm2 hE (hl.wI (hI1 _ (by omega) (by omega) (by omega)) (hI1 _ (by omega) (by omega) (by omega)) (by rw [hI1 _ (by omega) (by omega) (by omega)])) i (by omega)
    refine ⟨up1 I2 1253 i (pGr E al r i), ?_, fun b h1 h2 h3 => ?_, fun p hp => ?_⟩
    · rw [s219_2]
      simp (disch := first | omega | assumption) only [hm.t, m_r39 hm, m_t39 hm, m_l39 hm, m_r41 hm, m_t41 hm, m_l41 hm, iN2, gT_wI, gR_wI, gL_wI, gS_wI, gU_wI, gI_wI, gJ_wI, gI_wJ, gJ_wJ, gR_wJ, gT_wJ, gL_wJ, gS_wJ, gU_wJ, gI_wR, gJ_wR, gR_wR, gT_wR, gL_wR, gS_wR, gU_wR, wI_wI, wJ_wJ, wR_wR, j_s, j_add, j_addL, j_addR, j_mulL, j_mulR, j_cl, j_clL, j_neg, j_negL, j_nn, j_lt, j_le, j_eq, j_ltL, j_ltR, j_leL, j_leR, j_eqL, j_eqR, j_m1, j_m1L, j_m1R, j_eqLL, j_ltLL, j_leLL, n_le0, n_le1, n_lt0, n_lt1, gc_v, gc_n, ↓reduceIte, and_true, true_and, and_self, or_self, or_false, false_or, not_false_eq_true, not_true_eq_false, false_and, and_false, Nat.reduceAdd, Nat.reduceEqDiff, Nat.reduceLeDiff, Nat.reduceLT]
      rw [f1, gc_v, s219_20]
      simp (disch := first | omega | assumption) only [hm.t, m_r39 hm, m_t39 hm, m_l39 hm, m_r41 hm, m_t41 hm, m_l41 hm, gT_wI, gR_wI, gL_wI, gS_wI, gU_wI, gI_wI, gJ_wI, gI_wJ, gJ_wJ, gR_wJ, gT_wJ, gL_wJ, gS_wJ, gU_wJ, gI_wR, gJ_wR, gR_wR, gT_wR, gL_wR, gS_wR, gU_wR, wI_wI, wJ_wJ, wR_wR, j_s, j_add, j_addL, j_addR, j_mulL, j_mulR, j_cl, j_clL, j_neg, j_negL, j_nn, j_lt, j_le, j_eq, j_ltL, j_ltR, j_leL, j_leR, j_eqL, j_eqR, j_m1, j_m1L, j_m1R, j_eqLL, j_ltLL, j_leLL, n_le0, n_le1, n_lt0, n_lt1, gc_v, gc_n, ↓reduceIte, and_true, true_and, and_self, or_self, or_false, false_or, not_false_eq_true, not_true_eq_false, false_and, and_false, Nat.reduceAdd, Nat.reduceEqDiff, Nat.reduceLeDiff, Nat.reduceLT]
    · rw [up1_nc _ _ _ h3]; exact (f2 b h1 h2).trans (hI1 b h1 h2 h3)
    · by_cases z : p = i
      · subst z; rw [up1_eq]
      · rw [up1_nj _ _ z, f2 _ (by omega) (by omega)]; exact hI2 p (by omega)
theorem sp219b {d : Nat} {h : gd_H} {E : gdE} {al : Int32} {r : gdR} (hd : 2 ≤ d) (hm : MS h) (hx : MC (gI h) E al r) (g : Nat → Int32) (hg : ∀ p, p < eN E → gI h 1253 p = g p) : ∃ I' : Nat → Nat → Int32, go gd_P0 (d - 1) 219 29 [.ref 1231, .int 0] [] h = go gd_P0 (d - 1) 219 71 [.ref 1231, .int 0] [] (wI h I') ∧ (∀ b, b ≠ 1251 → I' b = gI h b) ∧ ∀ j, j < 50 → I' 1251 j = if j < eN E then jmin 999 (r j + g j) else r j := by
  obtain ⟨d, rfl⟩ : ∃ e, d = e + 1 := ⟨d - 1, by omega⟩
  obtain ⟨⟨hB, hN⟩, ⟨iB, iN, iA⟩, iG, iK, iR, cS⟩ := id hx
  show ∃ I' : Nat → Nat → Int32, go gd_P0 d 219 29 [.ref 1231, .int 0] [] h = go gd_P0 d 219 71 [.ref 1231, .int 0] [] (wI h I') ∧ _
  have L := lp_e (fun i I => go gd_P0 d 219 29 [.ref 1231, .int (Int32.ofNat i)] [] (wI h I)) (fun i I => (∀ b, b ≠ 1251 → I b = gI h b) ∧ ∀ j, j < 50 → I 1251 j = if j < i then jmin 999 (r j + g j) else r j) (eN E) (gI h) ⟨fun _ _ => rfl, fun p hp => by rw [if_neg (by omega)]; exact cS p hp⟩ ?_
  · obtain ⟨I', e1, e2, e3⟩ := L
    refine ⟨I', e1.trans ?_, e2, e3⟩
    try dsimp only
    rw [s219_29]
    have iN2 : I' 1231 21 = Int32.ofNat (eN E) := by rw [e2 1231 (by omega)]; exact iN
    simp (disch := first | omega | assumption) only [hm.t, m_r39 hm, m_t39 hm, m_l39 hm, m_r41 hm, m_t41 hm, m_l41 hm, iN2, gT_wI, gR_wI, gL_wI, gS_wI, gU_wI, gI_wI, gJ_wI, gI_wJ, gJ_wJ, gR_wJ, gT_wJ, gL_wJ, gS_wJ, gU_wJ, gI_wR, gJ_wR, gR_wR, gT_wR, gL_wR, gS_wR, gU_wR, wI_wI, wJ_wJ, wR_wR, j_s, j_add, j_addL, j_addR, j_mulL, j_mulR, j_cl, j_clL, j_neg, j_negL, j_nn, j_lt, j_le, j_eq, j_ltL, j_ltR, j_leL, j_leR, j_eqL, j_eqR, j_m1, j_m1L, j_m1R, j_eqLL, j_ltLL, j_leLL, n_le0, n_le1, n_lt0, n_lt1, gc_v, gc_n, ↓reduceIte, and_true, true_and, and_self, or_self, or_false, false_or, not_false_eq_true, not_true_eq_false, false_and, and_false, Nat.reduceAdd, Nat.reduceEqDiff, Nat.reduceLeDiff, Nat.reduceLT]
  · intro i hi I hI
    try dsimp only
    obtain ⟨hI1, hI2⟩ := hI
    have iN2 : I 1231 21 = Int32.ofNat (eN E) := by rw [hI1 1231 (by omega)]; exact iN
    have m2 : I 1253 i = g i := by rw [hI1 1253 (by omega)]; exact hg i hi
    have h2 : I 1251 i = r i := by rw [hI2 i (by omega), if_neg (by omega)]
    refine ⟨up1 I 1251 i (jmin 999 (r i + g i)), ?_, fun b hb => ?_, fun p hp => ?_⟩
    · rw [s219_29]
      simp (disch := first | omega | assumption) only [hm.t, m_r39 hm, m_t39 hm, m_l39 hm, m_r41 hm, m_t41 hm, m_l41 hm, iN2, m2, h2, s219_62, Nat.zero_add, sp228 (d := d) (by omega), gT_wI, gR_wI, gL_wI, gS_wI, gU_wI, gI_wI, gJ_wI, gI_wJ, gJ_wJ, gR_wJ, gT_wJ, gL_wJ, gS_wJ, gU_wJ, gI_wR, gJ_wR, gR_wR, gT_wR, gL_wR, gS_wR, gU_wR, wI_wI, wJ_wJ, wR_wR, j_s, j_add, j_addL, j_addR, j_mulL, j_mulR, j_cl, j_clL, j_neg, j_negL, j_nn, j_lt, j_le, j_eq, j_ltL, j_ltR, j_leL, j_leR, j_eqL, j_eqR, j_m1, j_m1L, j_m1R, j_eqLL, j_ltLL, j_leLL, n_le0, n_le1, n_lt0, n_lt1, gc_v, gc_n, ↓reduceIte, and_true, true_and, and_self, or_self, or_false, false_or, not_false_eq_true, not_true_eq_false, false_and, and_false, Nat.reduceAdd, Nat.reduceEqDiff, Nat.reduceLeDiff, Nat.reduceLT]
    · rw [up1_nc _ _ _ hb]; exact hI1 b hb
    · by_cases z : p = i
      · subst z; rw [up1_eq, if_pos (by omega)]
      · rw [up1_nj _ _ z, hI2 p hp]
        by_cases z2 : p < i
        · rw [if_pos z2, if_pos (by omega)]
        · rw [if_neg z2, if_neg (by omega)]
theorem sp219c {d : Nat} {h : gd_H} {E : gdE} {al : Int32} {r' : gdR} (hd : 4 ≤ d) (hm : MS h) (hx : MC (gI h) E al r') {m : Nat} (e49 : r' 49 = Int32.ofNat m) (hm2 : m < 1000000) : ∃ I' : Nat → Nat → Int32, go gd_P0 (d - 1) 219 71 [.ref 1231, .int 0] [] h = some (.inl none, wI h I') ∧ (∀ b, b ≠ 1251 → I' b = gI h b) ∧ ∀ j, j < 50 → I' 1251 j = if 42 ≤ j ∧ j < 42 + eB E then pTh E al r' (j - 42) else if j = 49 then r' 49 + 1 else r' j := by
  obtain ⟨d, rfl⟩ : ∃ e, d = e + 1 := ⟨d - 1, by omega⟩
  obtain ⟨⟨hB, hN⟩, ⟨iB, iN, iA⟩, iG, iK, iR, cS⟩ := id hx
  show ∃ I' : Nat → Nat → Int32, go gd_P0 d 219 71 [.ref 1231, .int 0] [] h = some (.inl none, wI h I') ∧ _
  have L := lp_e (fun i I => go gd_P0 d 219 71 [.ref 1231, .int (Int32.ofNat i)] [] (wI h I)) (fun i I => (∀ b, b ≠ 1251 → I b = gI h b) ∧ ∀ j, j < 50 → I 1251 j = if 42 ≤ j ∧ j < 42 + i then pTh E al r' (j - 42) else r' j) (eB E) (gI h) ⟨fun _ _ => rfl, fun p hp => by rw [if_neg (by omega)]; exact cS p hp⟩ ?_
  · obtain ⟨I', e1, e2, e3⟩ := L
    have iB2 : I' 1231 20 = Int32.ofNat (eB E) := by rw [e2 1231 (by omega)]; exact iB
    have c49 : I' 1251 49 = r' 49 := by rw [e3 49 (by omega), if_neg (by omega)]
    refine ⟨up1 I' 1251 49 (r' 49 + 1), e1.trans ?_, fun b hb => ?_, fun j hj => ?_⟩
    · try dsimp only
      rw [s219_71]
      simp (disch := first | omega | assumption) only [hm.t, m_r39 hm, m_t39 hm, m_l39 hm, m_r41 hm, m_t41 hm, m_l41 hm, iB2, c49, gT_wI, gR_wI, gL_wI, gS_wI, gU_wI, gI_wI, gJ_wI, gI_wJ, gJ_wJ, gR_wJ, gT_wJ, gL_wJ, gS_wJ, gU_wJ, gI_wR, gJ_wR, gR_wR, gT_wR, gL_wR, gS_wR, gU_wR, wI_wI, wJ_wJ, wR_wR, j_s, j_add, j_addL, j_addR, j_mulL, j_mulR, j_cl, j_clL, j_neg, j_negL, j_nn, j_lt, j_le, j_eq, j_ltL, j_ltR, j_leL, j_leR, j_eqL, j_eqR, j_m1, j_m1L, j_m1R, j_eqLL, j_ltLL, j_leLL, n_le0, n_le1, n_lt0, n_lt1, gc_v, gc_n, ↓reduceIte, and_true, true_and, and_self, or_self, or_false, false_or, not_false_eq_true, not_true_eq_false, false_and, and_false, Nat.reduceAdd, Nat.reduceEqDiff, Nat.reduceLeDiff, Nat.reduceLT]
    · rw [up1_nc _ _ _ hb]; exact e2 b hb
    · by_cases z : j = 49
      · subst z; rw [up1_eq, if_neg (by omega), if_pos rfl]
      · rw [up1_nj _ _ z, e3 j hj]
        by_cases z2 : 42 ≤ j ∧ j < 42 + eB E
        · rw [if_pos z2, if_pos z2]
        · rw [if_neg z2, if_neg z2, if_neg z]
  · intro i hi I hI
    try dsimp only
    obtain ⟨hI1, hI2⟩ := hI
    have iB2 : I 1231 20 = Int32.ofNat (eB E) := by rw [hI1 1231 (by omega)]; exact iB
    have h2 : I 1251 (42 + i) = r' (42 + i) := by rw [hI2 _ (by omega), if_neg (by omega)]
    have hxI : MC I E al (pT2 E al r' i) := by
      refine ⟨⟨hB, hN⟩, ⟨?_, ?_, ?_⟩, ?_, ?_, ?_, fun j hj => hI2 j hj⟩
      · rw [hI1 _ (by omega)]; exact iB
      · rw [hI1 _ (by omega)]; exact iN
      · rw [hI1 _ (by omega)]; exact iA
      · intro q hq; rw [hI1 _ (by omega)]; exact iG q hq
      · intro q hq; rw [hI1 _ (by omega)]; exact iK q hq
      · intro q hq; rw [hI1 _ (by omega)]; exact iR q hq
    have e229 := sp229 (d := d) (by omega) (hm.wI I) hxI (m := m) (by rw [pT2_o (by omega)]; exact e49) hm2 i hi
    rw [pRain_cg (r := r') (pT2_o (by omega)), pT2_o (by omega)] at e229
    refine ⟨up1 I 1251 (42 + i) (pTh E al r' i), ?_, fun b hb => ?_, fun p hp => ?_⟩
    · rw [s219_71]
      simp (disch := first | omega | assumption) only [hm.t, m_r39 hm, m_t39 hm, m_l39 hm, m_r41 hm, m_t41 hm, m_l41 hm, iB2, h2, gT_wI, gR_wI, gL_wI, gS_wI, gU_wI, gI_wI, gJ_wI, gI_wJ, gJ_wJ, gR_wJ, gT_wJ, gL_wJ, gS_wJ, gU_wJ, gI_wR, gJ_wR, gR_wR, gT_wR, gL_wR, gS_wR, gU_wR, wI_wI, wJ_wJ, wR_wR, j_s, j_add, j_addL, j_addR, j_mulL, j_mulR, j_cl, j_clL, j_neg, j_negL, j_nn, j_lt, j_le, j_eq, j_ltL, j_ltR, j_leL, j_leR, j_eqL, j_eqR, j_m1, j_m1L, j_m1R, j_eqLL, j_ltLL, j_leLL, n_le0, n_le1, n_lt0, n_lt1, gc_v, gc_n, ↓reduceIte, and_true, true_and, and_self, or_self, or_false, false_or, not_false_eq_true, not_true_eq_false, false_and, and_false, Nat.reduceAdd, Nat.reduceEqDiff, Nat.reduceLeDiff, Nat.reduceLT]
      rw [e229, gc_v, s219_101]
      simp (disch := first | omega | assumption) only [hm.t, m_r39 hm, m_t39 hm, m_l39 hm, m_r41 hm, m_t41 hm, m_l41 hm, s219_105, sp228 (d := d) (by omega), gT_wI, gR_wI, gL_wI, gS_wI, gU_wI, gI_wI, gJ_wI, gI_wJ, gJ_wJ, gR_wJ, gT_wJ, gL_wJ, gS_wJ, gU_wJ, gI_wR, gJ_wR, gR_wR, gT_wR, gL_wR, gS_wR, gU_wR, wI_wI, wJ_wJ, wR_wR, j_s, j_add, j_addL, j_addR, j_mulL, j_mulR, j_cl, j_clL, j_neg, j_negL, j_nn, j_lt, j_le, j_eq, j_ltL, j_ltR, j_leL, j_leR, j_eqL, j_eqR, j_m1, j_m1L, j_m1R, j_eqLL, j_ltLL, j_leLL, n_le0, n_le1, n_lt0, n_lt1, gc_v, gc_n, ↓reduceIte, and_true, true_and, and_self, or_self, or_false, false_or, not_false_eq_true, not_true_eq_false, false_and, and_false, Nat.reduceAdd, Nat.reduceEqDiff, Nat.reduceLeDiff, Nat.reduceLT]
      rfl
    · rw [up1_nc _ _ _ hb]; exact hI1 b hb
    · by_cases z : p = 42 + i
      · subst z; rw [up1_eq, if_pos (by omega), show 42 + i - 42 = i by omega]
      · rw [up1_nj _ _ z, hI2 p hp]
        by_cases z2 : 42 ≤ p ∧ p < 42 + i
        · rw [if_pos z2, if_pos (by omega)]
        · rw [if_neg z2, if_neg (by omega)]
/-- a month's end, the model's -/
theorem sp219 {d : Nat} {h : gd_H} {E : gdE} {al : Int32} {r : gdR} (hd : 10 ≤ d) (hm : MS h) (hx : MC (gI h) E al r) {m : Nat} (hr : RI E m r) (hm2 : m < 1000000) (hE : EI E) (hl : LWm h (eL E)) : ∃ I' : Nat → Nat → Int32, run gd_P0 d 219 [.ref 1231] h = some (.inl none, wI h I') ∧ MC I' E al (pMo E al r) ∧ ∀ b, b ≠ 1246 → b ≠ 1247 → b ≠ 1251 → b ≠ 1253 → I' b = gI h b := by
  obtain ⟨d, rfl⟩ : ∃ e, d = e + 1 := ⟨d - 1, by omega⟩
  obtain ⟨⟨hB, hN⟩, ⟨iB, iN, iA⟩, iG, iK, iR, cS⟩ := id hx
  obtain ⟨I1, e1, f1, c1⟩ := sp219a (d := d + 1) (by omega) hm hx hr hm2 hE hl
  have hx1 : MC I1 E al r := hx.fr (f1 _ (by omega) (by omega) (by omega)) (f1 _ (by omega) (by omega) (by omega)) (f1 _ (by omega) (by omega) (by omega)) (f1 _ (by omega) (by omega) (by omega)) (f1 _ (by omega) (by omega) (by omega))
  obtain ⟨I2, e2, f2, c2⟩ := sp219b (d := d + 1) (by omega) (hm.wI I1) hx1 (pGr E al r) c1
  have hx2 : MC I2 E al (pH2 E al r) := by
    obtain ⟨-, ⟨iB, iN, iA⟩, iG, iK, iR, cS⟩ := id hx1
    refine ⟨⟨hB, hN⟩, ⟨?_, ?_, ?_⟩, ?_, ?_, ?_, c2⟩
    · rw [f2 _ (by omega)]; exact iB
    · rw [f2 _ (by omega)]; exact iN
    · rw [f2 _ (by omega)]; exact iA
    · intro q hq; rw [f2 _ (by omega)]; exact iG q hq
    · intro q hq; rw [f2 _ (by omega)]; exact iK q hq
    · intro q hq; rw [f2 _ (by omega)]; exact iR q hq
  obtain ⟨I3, e3, f3, c3⟩ := sp219c (d := d + 1) (by omega) (hm.wI I2) hx2 (m := m) (by rw [pH2_ge (by omega)]; exact hr.2.2.1) hm2
  refine ⟨I3, ?_, ?_, fun b h1 h2 h3 h4 => (f3 b h3).trans ((f2 b h3).trans (f1 b h1 h2 h4))⟩
  · rw [r219, s219_0]
    exact e1.trans (e2.trans e3)
  · obtain ⟨-, ⟨iB, iN, iA⟩, iG, iK, iR, cS⟩ := id hx2
    refine ⟨⟨hB, hN⟩, ⟨?_, ?_, ?_⟩, ?_, ?_, ?_, fun j hj => ?_⟩
    · rw [f3 _ (by omega)]; exact iB
    · rw [f3 _ (by omega)]; exact iN
    · rw [f3 _ (by omega)]; exact iA
    · intro q hq; rw [f3 _ (by omega)]; exact iG q hq
    · intro q hq; rw [f3 _ (by omega)]; exact iK q hq
    · intro q hq; rw [f3 _ (by omega)]; exact iR q hq
    · rw [c3 j hj, pMo_2 hN hB]

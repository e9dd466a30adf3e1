/-! ===== THE ABSTRACT HEAP AND THE MACHINE'S: tables of classes, the relation ===== -/
set_option maxRecDepth 100000
/-- a method: its name, code, locals, answer, handlers -/
abbrev gd_M : Type := MethodName × ByteArray × Nat × Option FieldType × List (Nat × Nat × Nat × Nat)
/-- kinds of cells: objects of our classes -/
def gd_cl : Nat → Option vw_C := fun t => match t with
  | 1 => some (RX1, TX1, 23) | 2 => some (RX2, TX2, 1) | 3 => some (RX3, TX3, 2) | 4 => some (RX4, TX4, 14) | 5 => some (RX5, TX5, 8) | 6 => some (RX6, TX6, 8) | 7 => some (RX7, TX7, 4) | 8 => some (RX8, TX8, 57)
  | 9 => some (RX9, TX9, 4) | 10 => some (RX10, TX10, 4) | 11 => some (RX11, TX11, 8) | 12 => some (RX12, TX12, 2) | 13 => some (RX13, TX13, 3) | 14 => some (RX14, TX14, 1) | 15 => some (RX15, TX15, 1) | 16 => some (RX16, TX16, 3)
  | 18 => some (RX18, TX18, 3) | 19 => some (RX19, TX19, 2) | 20 => some (RX20, TX20, 3) | 21 => some (RX21, TX9, 0) | 22 => some (RX22, TX22, 4) | 24 => some (RJ9, TJ9, 0) | 25 => some (RJ3, TJ3, 0)
  | _ => none
/-- the fields' types -/
def gd_ty : Nat → Nat → FieldType := fun t => match t with
  | 1 => tyX1 | 2 => tyX2 | 3 => tyX3 | 4 => tyX4 | 5 => tyX5 | 6 => tyX6 | 7 => tyX7 | 8 => tyX8 | 9 => tyX9 | 10 => tyX10 | 11 => tyX11 | 12 => tyX12 | 13 => tyX13 | 14 => tyX14 | 15 => tyX15 | 16 => tyX16
  | 18 => tyX18 | 19 => tyX19 | 20 => tyX20 | 22 => tyX22 | _ => fun _ => .int
/-- arrays: their components' types -/
def gd_ety : Nat → Option FieldType := fun t => match t with
  | 31 => some .int | 32 => some .byte | 33 => some .boolean | 34 => some .long
  | 35 => some (.object RX4) | 36 => some (.object RX3) | 37 => some (.object RX17) | 38 => some (.object RJ4) | _ => none
/-- arrays that were there before, never written -/
def gd_fty : Nat → Option FieldType := fun t => match t with
  | 41 => some .int | 42 => some .byte | _ => none
def kdOf (ty : FieldType) : Nat := match ty with
  | .long => 1 | .object _ => 2 | .array _ => 2 | _ => 0
/-- values that stand for null and three statics; addresses of what was there; the first new address; classes; slots; the first heap -/
abbrev gd_G : Type := (Nat → Value) × (Nat → Nat) × (Nat → Nat) × (Nat → ClassId) × (Nat → Nat → Nat) × Heap
def g_sp (G : gd_G) : Nat → Value := G.1
def g_fz (G : gd_G) : Nat → Nat := G.2.1
def g_fk (G : gd_G) : Nat → Nat := G.2.2.1
def g_dC (G : gd_G) : Nat → ClassId := G.2.2.2.1
def g_dI (G : gd_G) : Nat → Nat → Nat := G.2.2.2.2.1
def g_H (G : gd_G) : Heap := G.2.2.2.2.2
def g_b (G : gd_G) : Nat := (g_H G).size
def ad (G : gd_G) (n : Nat) : Nat := if n < 96 then g_fz G n else g_b G + (n - 96)
def vf (G : gd_G) : Value → Value
  | .ref n => if n < 4 then g_sp G n else .ref (ad G n)
  | v => v
/-- a place's value, by its kind -/
def gd_v (G : gd_G) (kd : Nat) (h : gd_H) (i k : Nat) : Value := if kd = 0 then .int (gI h i k) else if kd = 1 then .long (gJ h i k) else vf G (.ref (gR h i k))
def gd_at (G : gd_G) (h : gd_H) (H : Heap) (i : Nat) : Prop :=
  (∀ q : vw_C, gd_cl (gT h i) = some q → t_OB (ad G i) (g_dC G (gT h i)) q.2.2 (g_dI G (gT h i)) H (fun k => gd_v G (kdOf (gd_ty (gT h i) k)) h i k)) ∧
  (∀ ty : FieldType, gd_ety (gT h i) = some ty → H[ad G i]? = some (arrV (g_dC G (gT h i)) (gL h i) (fun j => gd_v G (kdOf ty) h i j))) ∧
  (∀ ty : FieldType, gd_fty (gT h i) = some ty → ∃ cell : Cell, H[ad G i]? = some cell ∧ cell.vm ≠ .unknown ∧ (gL h i ≤ cell.slots.size ∧ cell.slots.size.toInt32 = Int32.ofNat (gL h i)) ∧ ∀ j, j < gL h i → cell.slots[j]? = some (.int (gI h i j)))
def gd_R (G : gd_G) (h : gd_H) (H : Heap) : Prop :=
  (∀ q, q < g_b G → H[q]? = (g_H G)[q]?) ∧ 96 ≤ gS h ∧ H.size = g_b G + (gS h - 96) ∧ (∀ i, gS h ≤ i → gT h i = 0) ∧ (∀ i, i < 96 → gT h i = g_fk G i) ∧
  (∀ i, i < 96 → g_fk G i = 23 → gR h i 0 = i + 1 ∧ gI h i 1 = 0) ∧ ∀ i, gd_at G h H i
/-- what was there before, and the stand-ins -/
def gd_Z (G : gd_G) : Prop := (∀ i, i < 96 → g_fk G i = 0 ∨ g_fk G i = 23 ∨ g_fk G i = 41 ∨ g_fk G i = 42) ∧ (∀ i, i < 96 → g_fk G i ≠ 0 → g_fz G i < g_b G) ∧
  g_sp G 0 = .null ∧ (∀ n, g_sp G n = .null ∨ ∃ a, g_sp G n = .ref a) ∧ ∀ i, i < 4 → g_fk G i = 0
theorem ad_lo (G : gd_G) {i : Nat} (h : i < 96) : ad G i = g_fz G i := by unfold ad; rw [if_pos h]
theorem ad_hi (G : gd_G) {i : Nat} (h : 96 ≤ i) : ad G i = g_b G + (i - 96) := by unfold ad; rw [if_neg (by omega)]
theorem ad_le (G : gd_G) {i : Nat} (h : 96 ≤ i) : g_b G ≤ ad G i := by rw [ad_hi G h]; omega
theorem ad_ne {G : gd_G} {h : gd_H} {H : Heap} (Z : gd_Z G) (hR : gd_R G h H) {i j : Nat} (hi : 96 ≤ i) (hj : gT h j ≠ 0) (hij : j ≠ i) : ad G j ≠ ad G i := by
  by_cases h1 : j < 96
  · have := Z.2.1 j h1 (by rw [← hR.2.2.2.2.1 j h1]; exact hj)
    rw [ad_lo G h1, ad_hi G hi]
    omega
  · rw [ad_hi G hi, ad_hi G (by omega)]
    omega
theorem gd_dead {G : gd_G} {h : gd_H} {H : Heap} {j : Nat} (hj : gT h j = 0) : gd_at G h H j := by
  refine ⟨fun q e => ?_, fun ty e => ?_, fun ty e => ?_⟩ <;> (rw [hj] at e; cases e)
/-- a place's value depends on its own cell alone -/
theorem gd_v_same {G : gd_G} {h h' : gd_H} {j : Nat} (e1 : gI h' j = gI h j) (e2 : gJ h' j = gJ h j) (e3 : gR h' j = gR h j) (kd k : Nat) : gd_v G kd h' j k = gd_v G kd h j k := by
  unfold gd_v
  rw [e1, e2, e3]
theorem gd_at_same {G : gd_G} {h h' : gd_H} {H H' : Heap} {j : Nat} (e1 : gI h' j = gI h j) (e2 : gJ h' j = gJ h j) (e3 : gR h' j = gR h j) (e4 : gT h' j = gT h j) (e5 : gL h' j = gL h j) (eH : H'[ad G j]? = H[ad G j]?) (hat : gd_at G h H j) : gd_at G h' H' j := by
  obtain ⟨a1, a2, a3⟩ := hat
  refine ⟨fun q e => ?_, fun ty e => ?_, fun ty e => ?_⟩
  · rw [e4] at e ⊢
    exact ((a1 q e).kept eH).to (fun k _ => (gd_v_same e1 e2 e3 _ k).symm)
  · rw [e4] at e ⊢
    rw [eH, a2 ty e, e5]
    exact congrArg (fun f => some (arrV _ _ f)) (funext fun k => (gd_v_same e1 e2 e3 _ k).symm)
  · rw [e4] at e
    obtain ⟨cell, b1, b2, b3, b4⟩ := a3 ty e
    exact ⟨cell, by rw [eH]; exact b1, b2, by rw [e5]; exact b3, fun j hj => by rw [e1]; exact b4 j (by rw [← e5]; exact hj)⟩
/-- one cell written -/
theorem gd_R_upd {G : gd_G} {h h' : gd_H} {H H' : Heap} (Z : gd_Z G) (hR : gd_R G h H) {i : Nat} (hi : 96 ≤ i) (eT : gT h' = gT h) (eL : gL h' = gL h) (eS : gS h' = gS h)
    (o1 : ∀ j, j ≠ i → gI h' j = gI h j) (o2 : ∀ j, j ≠ i → gJ h' j = gJ h j) (o3 : ∀ j, j ≠ i → gR h' j = gR h j)
    (eZ : H'.size = H.size) (eH : ∀ q, q ≠ ad G i → H'[q]? = H[q]?) (hat : gd_at G h' H' i) : gd_R G h' H' := by
  obtain ⟨r1, r2, r3, r4, r5, r6, r7⟩ := id hR
  refine ⟨fun q hq => ?_, by rw [eS]; exact r2, by rw [eZ, eS]; exact r3, fun j hj => by rw [eT]; exact r4 j (by rw [← eS]; exact hj), fun j hj => by rw [eT]; exact r5 j hj, fun j hj e => ?_, fun j => ?_⟩
  · rw [eH q (by have := ad_le G hi; omega)]
    exact r1 q hq
  · rw [o1 j (by omega), o3 j (by omega)]
    exact r6 j hj e
  · by_cases hj : j = i
    · subst hj; exact hat
    · by_cases ht : gT h j = 0
      · exact gd_dead (by rw [eT]; exact ht)
      · exact gd_at_same (o1 j hj) (o2 j hj) (o3 j hj) (by rw [eT]) (by rw [eL]) (eH _ (ad_ne Z hR hi ht hj)) (r7 j)
/-- a cell made -/
theorem gd_R_new {G : gd_G} {h : gd_H} {H H' : Heap} (Z : gd_Z G) (hR : gd_R G h H) {t n s : Nat} (eZ : H'.size = H.size + 1) (eH : ∀ q, q < H.size → H'[q]? = H[q]?) (hat : gd_at G (nw h t n s) H' (gS h)) : gd_R G (nw h t n s) H' ∧ H.size = ad G (gS h) := by
  obtain ⟨r1, r2, r3, r4, r5, r6, r7⟩ := id hR
  have hn : ∀ j, j < gS h → j ≠ gS h := fun j hj => by omega
  refine ⟨⟨fun q hq => ?_, by rw [gS_nw]; omega, by rw [eZ, gS_nw]; omega, fun j hj => ?_, fun j hj => ?_, fun j hj e => ?_, fun j => ?_⟩, by rw [ad_hi G r2]; exact r3⟩
  · rw [eH q (by omega)]
    exact r1 q hq
  · rw [gS_nw] at hj
    rw [gT_nw, if_neg (by omega)]
    exact r4 j (by omega)
  · rw [gT_nw, if_neg (by omega)]
    exact r5 j hj
  · rw [gR_nw, gI_nw, if_neg (by omega), if_neg (by omega)]
    exact r6 j hj e
  · by_cases hj : j = gS h
    · subst hj; exact hat
    · by_cases ht : gT h j = 0
      · exact gd_dead (by rw [gT_nw, if_neg hj]; exact ht)
      · have hlt : j < gS h := by
          rcases Nat.lt_or_ge j (gS h) with q | q
          · exact q
          · exact absurd (r4 j q) ht
        refine gd_at_same (funext fun k => by rw [gI_nw, if_neg hj]) (funext fun k => by rw [gJ_nw, if_neg hj]) (funext fun k => by rw [gR_nw, if_neg hj]) (by rw [gT_nw, if_neg hj]) (by show (nw h t n s).2.2.2.2.1 j = _; exact if_neg hj) (eH _ ?_) (r7 j)
        by_cases h1 : j < 96
        · have := Z.2.1 j h1 (by rw [← r5 j h1]; exact ht)
          rw [ad_lo G h1]
          omega
        · rw [ad_hi G (by omega)]
          omega
theorem vf_int (G : gd_G) (x : Int32) : vf G (.int x) = .int x := rfl
theorem vf_long (G : gd_G) (x : Int64) : vf G (.long x) = .long x := rfl
theorem vf_hi (G : gd_G) {n : Nat} (h : 4 ≤ n) : vf G (.ref n) = .ref (ad G n) := by show (if n < 4 then _ else _) = _; rw [if_neg (by omega)]
theorem vf_0 {G : gd_G} (Z : gd_Z G) : vf G (.ref 0) = .null := Z.2.2.1
theorem vf_isRef {G : gd_G} (Z : gd_Z G) (n : Nat) : vf G (.ref n) = .null ∨ ∃ a, vf G (.ref n) = .ref a := by
  show (if n < 4 then _ else _) = _ ∨ ∃ a, (if n < 4 then _ else _) = _
  by_cases h : n < 4
  · simp only [if_pos h]
    exact Z.2.2.2.1 n
  · simp only [if_neg h]
    exact Or.inr ⟨_, rfl⟩
theorem gd_ge4 {G : gd_G} {h : gd_H} {H : Heap} (Z : gd_Z G) (hR : gd_R G h H) {i : Nat} (ht : gT h i ≠ 0) : 4 ≤ i := by
  rcases Nat.lt_or_ge i 4 with q | q
  · exact absurd ((hR.2.2.2.2.1 i (by omega)).trans (Z.2.2.2.2 i q)) ht
  · exact q
theorem gd_ge96 {G : gd_G} {h : gd_H} {H : Heap} (Z : gd_Z G) (hR : gd_R G h H) {i : Nat} (h0 : gT h i ≠ 0) (h1 : gT h i ≠ 23) (h2 : gT h i ≠ 41) (h3 : gT h i ≠ 42) : 96 ≤ i := by
  rcases Nat.lt_or_ge i 96 with q | q
  · have a := hR.2.2.2.2.1 i q
    rcases Z.1 i q with b | b | b | b
    · exact absurd (a.trans b) h0
    · exact absurd (a.trans b) h1
    · exact absurd (a.trans b) h2
    · exact absurd (a.trans b) h3
  · exact q

/-! ===== THE LAW's ENTRY: the first heap, and what holds there ===== -/
set_option maxRecDepth 100000
def gd_sb : List (List Int32) := [[98, 111, 97, 114, 100], [98, 111, 121], [107, 105, 110], [114, 97, 105, 110], [102, 111, 111, 100], [104, 105, 103, 104], [107, 105, 110], [114, 97, 105, 110], [103, 97, 105, 110], [109, 111, 110, 116, 104], [100, 111, 111, 114], [98, 111, 121], [108, 101, 97, 115, 116], [109, 111, 115, 116], [110, 111, 116, 99, 104], [102, 101, 101, 100], [111, 105, 108], [112, 108, 97, 110, 101], [108, 101, 97, 118, 101], [98, 97, 99, 107], [109, 111, 110, 116, 104], [97, 103, 97, 105, 110], [98, 111, 97, 114, 100], [98, 111, 121], [107, 105, 110], [114, 97, 105, 110], [108, 101, 97, 115, 116], [109, 111, 115, 116], [102, 111, 111, 100], [104, 105, 103, 104], [103, 97, 105, 110], [109, 111, 110, 116, 104], [100, 111, 111, 114], [110, 111, 116, 99, 104], [108, 101, 97, 118, 101], [98, 97, 99, 107], [102, 101, 101, 100], [111, 105, 108], [112, 108, 97, 110, 101], [97, 103, 97, 105, 110]]
def gd_fk (i : Nat) : Nat := if i = 4 then 41 else if 8 ≤ i ∧ i < 88 then (if i % 2 = 0 then 23 else 42) else 0
/-- the heap at the law's entry: the script xs of L ints, the String constants -/
def gd_h0 (L : Nat) (xs : Nat → Int32) : gd_H :=
  (fun a k => if a = 4 then xs k else if 8 ≤ a ∧ a < 88 ∧ a % 2 = 1 then (gd_sb.getD ((a - 9) / 2) []).getD k 0 else 0, fun _ _ => 0,
   fun a k => if k = 0 ∧ 8 ≤ a ∧ a < 88 ∧ a % 2 = 0 then a + 1 else 0, gd_fk, fun a => if a = 4 then L else if 8 ≤ a ∧ a < 88 ∧ a % 2 = 1 then (gd_sb.getD ((a - 9) / 2) []).length else 0, 96, 0)
def gd_tm (j : Nat) : Term := Term.string (gd_strs.getD j ("", 0, "", 0)).1 (gd_strs.getD j ("", 0, "", 0)).2.1
def gd_nw1 : Cond := Jvm.Cond.and given_1 narrow_1
theorem gd_n1 : ∀ j, j < 40 → Cond.exactly (gd_tm j) "java/lang/String" ∈ flatC gd_nw1 := by decide +kernel
theorem gd_n2 : ∀ j, j < 40 → Cond.eq (.field (gd_tm j) "java/lang/String" "coder" "B") (.int 0) ∈ flatC gd_nw1 := by decide +kernel
theorem gd_n3 : ∀ j, j < 40 → Cond.arrayOf (.field (gd_tm j) "java/lang/String" "value" "[B") .byte ∈ flatC gd_nw1 := by decide +kernel
theorem gd_n4 : ∀ j, j < 40 → Cond.eq (.length (.field (gd_tm j) "java/lang/String" "value" "[B")) (.int (Int32.ofNat (gd_sb.getD j []).length)) ∈ flatC gd_nw1 := by decide +kernel
theorem gd_n5_0 : ∀ k, k < (gd_sb.getD 0 []).length → Cond.eq (.elem (.field (gd_tm 0) "java/lang/String" "value" "[B") (.int (Int32.ofNat k))) (.int ((gd_sb.getD 0 []).getD k 0)) ∈ flatC gd_nw1 := by decide +kernel
theorem gd_n5_1 : ∀ k, k < (gd_sb.getD 1 []).length → Cond.eq (.elem (.field (gd_tm 1) "java/lang/String" "value" "[B") (.int (Int32.ofNat k))) (.int ((gd_sb.getD 1 []).getD k 0)) ∈ flatC gd_nw1 := by decide +kernel
theorem gd_n5_2 : ∀ k, k < (gd_sb.getD 2 []).length → Cond.eq (.elem (.field (gd_tm 2) "java/lang/String" "value" "[B") (.int (Int32.ofNat k))) (.int ((gd_sb.getD 2 []).getD k 0)) ∈ flatC gd_nw1 := by decide +kernel
theorem gd_n5_3 : ∀ k, k < (gd_sb.getD 3 []).length → Cond.eq (.elem (.field (gd_tm 3) "java/lang/String" "value" "[B") (.int (Int32.ofNat k))) (.int ((gd_sb.getD 3 []).getD k 0)) ∈ flatC gd_nw1 := by decide +kernel
theorem gd_n5_4 : ∀ k, k < (gd_sb.getD 4 []).length → Cond.eq (.elem (.field (gd_tm 4) "java/lang/String" "value" "[B") (.int (Int32.ofNat k))) (.int ((gd_sb.getD 4 []).getD k 0)) ∈ flatC gd_nw1 := by decide +kernel
theorem gd_n5_5 : ∀ k, k < (gd_sb.getD 5 []).length → Cond.eq (.elem (.field (gd_tm 5) "java/lang/String" "value" "[B") (.int (Int32.ofNat k))) (.int ((gd_sb.getD 5 []).getD k 0)) ∈ flatC gd_nw1 := by decide +kernel
theorem gd_n5_6 : ∀ k, k < (gd_sb.getD 6 []).length → Cond.eq (.elem (.field (gd_tm 6) "java/lang/String" "value" "[B") (.int (Int32.ofNat k))) (.int ((gd_sb.getD 6 []).getD k 0)) ∈ flatC gd_nw1 := by decide +kernel
theorem gd_n5_7 : ∀ k, k < (gd_sb.getD 7 []).length → Cond.eq (.elem (.field (gd_tm 7) "java/lang/String" "value" "[B") (.int (Int32.ofNat k))) (.int ((gd_sb.getD 7 []).getD k 0)) ∈ flatC gd_nw1 := by decide +kernel
theorem gd_n5_8 : ∀ k, k < (gd_sb.getD 8 []).length → Cond.eq (.elem (.field (gd_tm 8) "java/lang/String" "value" "[B") (.int (Int32.ofNat k))) (.int ((gd_sb.getD 8 []).getD k 0)) ∈ flatC gd_nw1 := by decide +kernel
theorem gd_n5_9 : ∀ k, k < (gd_sb.getD 9 []).length → Cond.eq (.elem (.field (gd_tm 9) "java/lang/String" "value" "[B") (.int (Int32.ofNat k))) (.int ((gd_sb.getD 9 []).getD k 0)) ∈ flatC gd_nw1 := by decide +kernel
theorem gd_n5_10 : ∀ k, k < (gd_sb.getD 10 []).length → Cond.eq (.elem (.field (gd_tm 10) "java/lang/String" "value" "[B") (.int (Int32.ofNat k))) (.int ((gd_sb.getD 10 []).getD k 0)) ∈ flatC gd_nw1 := by decide +kernel
theorem gd_n5_11 : ∀ k, k < (gd_sb.getD 11 []).length → Cond.eq (.elem (.field (gd_tm 11) "java/lang/String" "value" "[B") (.int (Int32.ofNat k))) (.int ((gd_sb.getD 11 []).getD k 0)) ∈ flatC gd_nw1 := by decide +kernel
theorem gd_n5_12 : ∀ k, k < (gd_sb.getD 12 []).length → Cond.eq (.elem (.field (gd_tm 12) "java/lang/String" "value" "[B") (.int (Int32.ofNat k))) (.int ((gd_sb.getD 12 []).getD k 0)) ∈ flatC gd_nw1 := by decide +kernel
theorem gd_n5_13 : ∀ k, k < (gd_sb.getD 13 []).length → Cond.eq (.elem (.field (gd_tm 13) "java/lang/String" "value" "[B") (.int (Int32.ofNat k))) (.int ((gd_sb.getD 13 []).getD k 0)) ∈ flatC gd_nw1 := by decide +kernel
theorem gd_n5_14 : ∀ k, k < (gd_sb.getD 14 []).length → Cond.eq (.elem (.field (gd_tm 14) "java/lang/String" "value" "[B") (.int (Int32.ofNat k))) (.int ((gd_sb.getD 14 []).getD k 0)) ∈ flatC gd_nw1 := by decide +kernel
theorem gd_n5_15 : ∀ k, k < (gd_sb.getD 15 []).length → Cond.eq (.elem (.field (gd_tm 15) "java/lang/String" "value" "[B") (.int (Int32.ofNat k))) (.int ((gd_sb.getD 15 []).getD k 0)) ∈ flatC gd_nw1 := by decide +kernel
theorem gd_n5_16 : ∀ k, k < (gd_sb.getD 16 []).length → Cond.eq (.elem (.field (gd_tm 16) "java/lang/String" "value" "[B") (.int (Int32.ofNat k))) (.int ((gd_sb.getD 16 []).getD k 0)) ∈ flatC gd_nw1 := by decide +kernel
theorem gd_n5_17 : ∀ k, k < (gd_sb.getD 17 []).length → Cond.eq (.elem (.field (gd_tm 17) "java/lang/String" "value" "[B") (.int (Int32.ofNat k))) (.int ((gd_sb.getD 17 []).getD k 0)) ∈ flatC gd_nw1 := by decide +kernel
theorem gd_n5_18 : ∀ k, k < (gd_sb.getD 18 []).length → Cond.eq (.elem (.field (gd_tm 18) "java/lang/String" "value" "[B") (.int (Int32.ofNat k))) (.int ((gd_sb.getD 18 []).getD k 0)) ∈ flatC gd_nw1 := by decide +kernel
theorem gd_n5_19 : ∀ k, k < (gd_sb.getD 19 []).length → Cond.eq (.elem (.field (gd_tm 19) "java/lang/String" "value" "[B") (.int (Int32.ofNat k))) (.int ((gd_sb.getD 19 []).getD k 0)) ∈ flatC gd_nw1 := by decide +kernel
theorem gd_n5_20 : ∀ k, k < (gd_sb.getD 20 []).length → Cond.eq (.elem (.field (gd_tm 20) "java/lang/String" "value" "[B") (.int (Int32.ofNat k))) (.int ((gd_sb.getD 20 []).getD k 0)) ∈ flatC gd_nw1 := by decide +kernel
theorem gd_n5_21 : ∀ k, k < (gd_sb.getD 21 []).length → Cond.eq (.elem (.field (gd_tm 21) "java/lang/String" "value" "[B") (.int (Int32.ofNat k))) (.int ((gd_sb.getD 21 []).getD k 0)) ∈ flatC gd_nw1 := by decide +kernel
theorem gd_n5_22 : ∀ k, k < (gd_sb.getD 22 []).length → Cond.eq (.elem (.field (gd_tm 22) "java/lang/String" "value" "[B") (.int (Int32.ofNat k))) (.int ((gd_sb.getD 22 []).getD k 0)) ∈ flatC gd_nw1 := by decide +kernel
theorem gd_n5_23 : ∀ k, k < (gd_sb.getD 23 []).length → Cond.eq (.elem (.field (gd_tm 23) "java/lang/String" "value" "[B") (.int (Int32.ofNat k))) (.int ((gd_sb.getD 23 []).getD k 0)) ∈ flatC gd_nw1 := by decide +kernel
theorem gd_n5_24 : ∀ k, k < (gd_sb.getD 24 []).length → Cond.eq (.elem (.field (gd_tm 24) "java/lang/String" "value" "[B") (.int (Int32.ofNat k))) (.int ((gd_sb.getD 24 []).getD k 0)) ∈ flatC gd_nw1 := by decide +kernel
theorem gd_n5_25 : ∀ k, k < (gd_sb.getD 25 []).length → Cond.eq (.elem (.field (gd_tm 25) "java/lang/String" "value" "[B") (.int (Int32.ofNat k))) (.int ((gd_sb.getD 25 []).getD k 0)) ∈ flatC gd_nw1 := by decide +kernel
theorem gd_n5_26 : ∀ k, k < (gd_sb.getD 26 []).length → Cond.eq (.elem (.field (gd_tm 26) "java/lang/String" "value" "[B") (.int (Int32.ofNat k))) (.int ((gd_sb.getD 26 []).getD k 0)) ∈ flatC gd_nw1 := by decide +kernel
theorem gd_n5_27 : ∀ k, k < (gd_sb.getD 27 []).length → Cond.eq (.elem (.field (gd_tm 27) "java/lang/String" "value" "[B") (.int (Int32.ofNat k))) (.int ((gd_sb.getD 27 []).getD k 0)) ∈ flatC gd_nw1 := by decide +kernel
theorem gd_n5_28 : ∀ k, k < (gd_sb.getD 28 []).length → Cond.eq (.elem (.field (gd_tm 28) "java/lang/String" "value" "[B") (.int (Int32.ofNat k))) (.int ((gd_sb.getD 28 []).getD k 0)) ∈ flatC gd_nw1 := by decide +kernel
theorem gd_n5_29 : ∀ k, k < (gd_sb.getD 29 []).length → Cond.eq (.elem (.field (gd_tm 29) "java/lang/String" "value" "[B") (.int (Int32.ofNat k))) (.int ((gd_sb.getD 29 []).getD k 0)) ∈ flatC gd_nw1 := by decide +kernel
theorem gd_n5_30 : ∀ k, k < (gd_sb.getD 30 []).length → Cond.eq (.elem (.field (gd_tm 30) "java/lang/String" "value" "[B") (.int (Int32.ofNat k))) (.int ((gd_sb.getD 30 []).getD k 0)) ∈ flatC gd_nw1 := by decide +kernel
theorem gd_n5_31 : ∀ k, k < (gd_sb.getD 31 []).length → Cond.eq (.elem (.field (gd_tm 31) "java/lang/String" "value" "[B") (.int (Int32.ofNat k))) (.int ((gd_sb.getD 31 []).getD k 0)) ∈ flatC gd_nw1 := by decide +kernel
theorem gd_n5_32 : ∀ k, k < (gd_sb.getD 32 []).length → Cond.eq (.elem (.field (gd_tm 32) "java/lang/String" "value" "[B") (.int (Int32.ofNat k))) (.int ((gd_sb.getD 32 []).getD k 0)) ∈ flatC gd_nw1 := by decide +kernel
theorem gd_n5_33 : ∀ k, k < (gd_sb.getD 33 []).length → Cond.eq (.elem (.field (gd_tm 33) "java/lang/String" "value" "[B") (.int (Int32.ofNat k))) (.int ((gd_sb.getD 33 []).getD k 0)) ∈ flatC gd_nw1 := by decide +kernel
theorem gd_n5_34 : ∀ k, k < (gd_sb.getD 34 []).length → Cond.eq (.elem (.field (gd_tm 34) "java/lang/String" "value" "[B") (.int (Int32.ofNat k))) (.int ((gd_sb.getD 34 []).getD k 0)) ∈ flatC gd_nw1 := by decide +kernel
theorem gd_n5_35 : ∀ k, k < (gd_sb.getD 35 []).length → Cond.eq (.elem (.field (gd_tm 35) "java/lang/String" "value" "[B") (.int (Int32.ofNat k))) (.int ((gd_sb.getD 35 []).getD k 0)) ∈ flatC gd_nw1 := by decide +kernel
theorem gd_n5_36 : ∀ k, k < (gd_sb.getD 36 []).length → Cond.eq (.elem (.field (gd_tm 36) "java/lang/String" "value" "[B") (.int (Int32.ofNat k))) (.int ((gd_sb.getD 36 []).getD k 0)) ∈ flatC gd_nw1 := by decide +kernel
theorem gd_n5_37 : ∀ k, k < (gd_sb.getD 37 []).length → Cond.eq (.elem (.field (gd_tm 37) "java/lang/String" "value" "[B") (.int (Int32.ofNat k))) (.int ((gd_sb.getD 37 []).getD k 0)) ∈ flatC gd_nw1 := by decide +kernel
theorem gd_n5_38 : ∀ k, k < (gd_sb.getD 38 []).length → Cond.eq (.elem (.field (gd_tm 38) "java/lang/String" "value" "[B") (.int (Int32.ofNat k))) (.int ((gd_sb.getD 38 []).getD k 0)) ∈ flatC gd_nw1 := by decide +kernel
theorem gd_n5_39 : ∀ k, k < (gd_sb.getD 39 []).length → Cond.eq (.elem (.field (gd_tm 39) "java/lang/String" "value" "[B") (.int (Int32.ofNat k))) (.int ((gd_sb.getD 39 []).getD k 0)) ∈ flatC gd_nw1 := by decide +kernel
theorem gd_n5 (j : Nat) (hj : j < 40) : ∀ k, k < (gd_sb.getD j []).length → Cond.eq (.elem (.field (gd_tm j) "java/lang/String" "value" "[B") (.int (Int32.ofNat k))) (.int ((gd_sb.getD j []).getD k 0)) ∈ flatC gd_nw1 := by
  match j, hj with
  | 0, _ => exact gd_n5_0
  | 1, _ => exact gd_n5_1
  | 2, _ => exact gd_n5_2
  | 3, _ => exact gd_n5_3
  | 4, _ => exact gd_n5_4
  | 5, _ => exact gd_n5_5
  | 6, _ => exact gd_n5_6
  | 7, _ => exact gd_n5_7
  | 8, _ => exact gd_n5_8
  | 9, _ => exact gd_n5_9
  | 10, _ => exact gd_n5_10
  | 11, _ => exact gd_n5_11
  | 12, _ => exact gd_n5_12
  | 13, _ => exact gd_n5_13
  | 14, _ => exact gd_n5_14
  | 15, _ => exact gd_n5_15
  | 16, _ => exact gd_n5_16
  | 17, _ => exact gd_n5_17
  | 18, _ => exact gd_n5_18
  | 19, _ => exact gd_n5_19
  | 20, _ => exact gd_n5_20
  | 21, _ => exact gd_n5_21
  | 22, _ => exact gd_n5_22
  | 23, _ => exact gd_n5_23
  | 24, _ => exact gd_n5_24
  | 25, _ => exact gd_n5_25
  | 26, _ => exact gd_n5_26
  | 27, _ => exact gd_n5_27
  | 28, _ => exact gd_n5_28
  | 29, _ => exact gd_n5_29
  | 30, _ => exact gd_n5_30
  | 31, _ => exact gd_n5_31
  | 32, _ => exact gd_n5_32
  | 33, _ => exact gd_n5_33
  | 34, _ => exact gd_n5_34
  | 35, _ => exact gd_n5_35
  | 36, _ => exact gd_n5_36
  | 37, _ => exact gd_n5_37
  | 38, _ => exact gd_n5_38
  | 39, _ => exact gd_n5_39
  | n + 40, h => exact absurd h (by omega)
theorem gd_n6 : ∀ j, j < 40 → (gd_sb.getD j []).length < 2 ^ 31 := by decide +kernel
theorem gd_n7 : Cond.eq (.static "java/lang/String" "COMPACT_STRINGS" "Z") (.int 1) ∈ flatC gd_nw1 := by decide +kernel
theorem gd_n8 : Cond.isRef (.static "jdk/internal/util/Preconditions" "SIOOBE_FORMATTER" "Ljava/util/function/BiFunction;") ∈ flatC gd_nw1 := by decide +kernel
theorem gd_n9 : Cond.isRef (.static Bundle.tN "UNASSIGNED_STACK" Bundle.steD) ∈ flatC gd_nw1 := by decide +kernel
theorem gd_n10 : Cond.isRef (.static Bundle.tN "SUPPRESSED_SENTINEL" Bundle.listD) ∈ flatC gd_nw1 := by decide +kernel
theorem gd_n11 : Cond.not (.castable RJ3 RJ9) ∈ flatC gd_nw1 := by decide +kernel
theorem gd_str1 {args : Array Value} {s : State} {t : Term} {byt : List Int32} {A : Nat → Prop} (hN : byt.length < 2 ^ 31) (hex : (Cond.exactly t "java/lang/String").before args s = true) (hco : (Cond.eq (.field t "java/lang/String" "coder" "B") (.int 0)).before args s = true)
    (har : (Cond.arrayOf (.field t "java/lang/String" "value" "[B") .byte).before args s = true) (hle : (Cond.eq (.length (.field t "java/lang/String" "value" "[B")) (.int (Int32.ofNat byt.length))).before args s = true)
    (hel : ∀ j : Nat, j < byt.length → (Cond.eq (.elem (.field t "java/lang/String" "value" "[B") (.int (Int32.ofNat j))) (.int (byt.getD j 0))).before args s = true) (hA : ∀ a : Nat, a < s.heap.size → ¬ A a) :
    ∃ q : Nat × Nat, t.eval args s none [] s = some (.ref q.1) ∧ va_O "java/lang/String" q.1 A s s.heap ∧ va_OF "java/lang/String" "coder" "B" (.int 0) q.1 A s s.heap ∧ va_OF "java/lang/String" "value" "[B" (.ref q.2) q.1 A s s.heap ∧ va_T .byte q.2 byt.length (fun j => .int (byt.getD j 0)) A s s.heap := by
  obtain ⟨a, c, cA, kA, q1, q2, q3, q4, q5, q6, -⟩ := Cond.exactly_spec (args := args) (first := s) (o := none) (s := s) (idx := []) (t := t) (cls := "java/lang/String") hex
  obtain ⟨t', ht, hT⟩ := va_Tof (f := fun j => .int (byt.getD j 0)) (A := A) hN har (va_eqt hle) (fun j hj => va_eqt (hel j hj)) hA
  exact ⟨(a, t'), q1, ⟨cA, q3, q5, by rw [q6]; exact q2, hA a (Array.getElem?_eq_some_iff.mp q3).1⟩, vk_OFof q1 (va_eqt hco) hA, vk_OFof q1 ht hA, hT⟩
theorem gd_zq {C n d : String} {A : Nat → Prop} {U : State} {H : Heap} (h : va_Zq C n d A U H) : ∃ v : Value, (v = .null ∨ ∃ a, v = .ref a) ∧ va_Z C n d v A U H := by
  rcases h with h | ⟨t, h⟩
  · exact ⟨_, Or.inl rfl, h⟩
  · exact ⟨_, Or.inr ⟨t, rfl⟩, h⟩
theorem gd_arr0 {s : State} {args : Array Value} {ty : FieldType} (hp : kdOf ty ≠ 2) (h : (Cond.arrayClass ty).before args s = true) : ∃ cA, ArrOfT s cA ty ∧ va_RA s cA ty := by
  obtain ⟨cA, kA, comp, h1, h2, h3⟩ := Cond.arrayClass_spec h
  refine ⟨cA, fun n z => ⟨fun k h => (by cases h), kA, h2, comp, h3⟩, ?_⟩
  cases ty <;> first | exact h1 | exact absurd rfl hp
theorem gd_arr2 {s : State} {args : Array Value} {C : String} (h : (Cond.arrayOver (.object C)).before args s = true) : ∃ cA, ArrOfT s cA (.object C) ∧ va_RA s cA (.object C) := by
  obtain ⟨comp, c, k, h1, h2, h3, h4, h5⟩ := Cond.arrayOver_spec h
  exact ⟨c, fun n z => ⟨fun k h => (by cases h), k, h3, comp, h4⟩, k, comp, h3, h4, h1, h5⟩
theorem gd_kinds {s : State} {args : Array Value} (ht : ∀ w ∈ lw_tbl, w.before args s = true) : ∀ t : Nat, ∃ p : ClassId × (Nat → Nat), (∀ q, gd_cl t = some q → u_Kn s q.1 q.2.1 q.2.2 p.1 p.2) ∧ ∀ ty, gd_ety t = some ty → ArrOfT s p.1 ty ∧ va_RA s p.1 ty := by
  have ha : ∀ w ∈ lw_all, w.before args s = true := fun w h => ht w (lw_all_tbl h)
  have K : ∀ {t : Nat} {q : vw_C} {n : Nat}, gd_cl t = some q → (∀ w ∈ u_ws q.1 q.2.1 q.2.2, w ∈ lw_all) → Cond.instantiable q.1 n ∈ lw_all → ∃ p : ClassId × (Nat → Nat), (∀ q, gd_cl t = some q → u_Kn s q.1 q.2.1 q.2.2 p.1 p.2) ∧ ∀ ty, gd_ety t = some ty → ArrOfT s p.1 ty ∧ va_RA s p.1 ty := by
    intro t q n hq hin hi
    obtain ⟨cC, iS, hk⟩ := u_known (n := n) ha hin (ha _ hi)
    refine ⟨(cC, iS), fun q' hq' => by rw [hq] at hq'; cases hq'; exact hk, fun ty hty => ?_⟩
    rw [(gd_cl_no hq).1] at hty
    cases hty
  have R : ∀ {t : Nat} {ty : FieldType}, gd_ety t = some ty → (∃ cA, ArrOfT s cA ty ∧ va_RA s cA ty) → ∃ p : ClassId × (Nat → Nat), (∀ q, gd_cl t = some q → u_Kn s q.1 q.2.1 q.2.2 p.1 p.2) ∧ ∀ ty, gd_ety t = some ty → ArrOfT s p.1 ty ∧ va_RA s p.1 ty := by
    intro t ty hty ⟨cA, h1⟩
    refine ⟨(cA, fun _ => 0), fun q hq => ?_, fun ty' h' => by rw [hty] at h'; cases h'; exact h1⟩
    rw [(gd_ety_no hty).1] at hq
    cases hq
  intro t
  by_cases h : ∃ q, gd_cl t = some q
  · obtain ⟨q, hq⟩ := h
    have hq0 := hq
    unfold gd_cl at hq
    split at hq
    · cases hq; exact K hq0 ck1.2.1 q121
    · cases hq; exact K hq0 ck2.2.1 q129
    · cases hq; exact K hq0 ck3.2.1 q141
    · cases hq; exact K hq0 ck4.2.1 q148
    · cases hq; exact K hq0 ck5.2.1 q154
    · cases hq; exact K hq0 ck6.2.1 q203
    · cases hq; exact K hq0 ck7.2.1 q321
    · cases hq; exact K hq0 ck8.2.1 q1437
    · cases hq; exact K hq0 ck9.2.1 q582
    · cases hq; exact K hq0 ck10.2.1 q588
    · cases hq; exact K hq0 ck11.2.1 q713
    · cases hq; exact K hq0 ck12.2.1 q782
    · cases hq; exact K hq0 ck13.2.1 q833
    · cases hq; exact K hq0 ck14.2.1 q851
    · cases hq; exact K hq0 ck15.2.1 q862
    · cases hq; exact K hq0 ck16.2.1 q887
    · cases hq; exact K hq0 ck18.2.1 q916
    · cases hq; exact K hq0 ck19.2.1 q948
    · cases hq; exact K hq0 ck20.2.1 q966
    · cases hq; exact K hq0 ck21.2.1 q982
    · cases hq; exact K hq0 ck22.2.1 q1000
    · cases hq; exact K hq0 (fun w (h : w ∈ ([] : List Cond)) => nomatch h) q1201
    · cases hq; exact K hq0 (fun w (h : w ∈ ([] : List Cond)) => nomatch h) q518
    · cases hq
  · by_cases h2 : ∃ ty, gd_ety t = some ty
    · obtain ⟨ty, hty⟩ := h2
      have h0 := hty
      unfold gd_ety at hty
      split at hty
      · cases hty; exact R h0 (gd_arr0 (by decide) (ha _ q201))
      · cases hty; exact R h0 (gd_arr0 (by decide) (ha _ q139))
      · cases hty; exact R h0 (gd_arr0 (by decide) (ha _ q1626))
      · cases hty; exact R h0 (gd_arr0 (by decide) (ha _ q426))
      · cases hty; exact R h0 (gd_arr2 (ht _ q147))
      · cases hty; exact R h0 (gd_arr2 (ht _ q317))
      · cases hty; exact R h0 (gd_arr2 (ht _ q925))
      · cases hty; exact R h0 (gd_arr2 (ht _ q611))
      · cases hty
    · exact ⟨(0, fun _ => 0), fun q hq => absurd ⟨q, hq⟩ h, fun ty hty => absurd ⟨ty, hty⟩ h2⟩
theorem gd_strw : ∀ q ∈ gd_strs, Cond.stringRef q.1 q.2.1 q.2.2.1 ∈ lw_tbl := by
  unfold gd_strs
  refine List.forall_mem_cons.mpr ⟨q612, List.forall_mem_cons.mpr ⟨q613, List.forall_mem_cons.mpr ⟨q614, List.forall_mem_cons.mpr ⟨q615, List.forall_mem_cons.mpr ⟨q788, List.forall_mem_cons.mpr ⟨q789, List.forall_mem_cons.mpr ⟨q790, List.forall_mem_cons.mpr ⟨q791, List.forall_mem_cons.mpr ⟨q792, List.forall_mem_cons.mpr ⟨q793, List.forall_mem_cons.mpr ⟨q794, List.forall_mem_cons.mpr ⟨q795, List.forall_mem_cons.mpr ⟨q819, List.forall_mem_cons.mpr ⟨q821, List.forall_mem_cons.mpr ⟨q893, List.forall_mem_cons.mpr ⟨q894, List.forall_mem_cons.mpr ⟨q895, List.forall_mem_cons.mpr ⟨q896, List.forall_mem_cons.mpr ⟨q897, List.forall_mem_cons.mpr ⟨q898, List.forall_mem_cons.mpr ⟨q899, List.forall_mem_cons.mpr ⟨q900, List.forall_mem_cons.mpr ⟨q1669, List.forall_mem_cons.mpr ⟨q1675, List.forall_mem_cons.mpr ⟨q1676, List.forall_mem_cons.mpr ⟨q1677, List.forall_mem_cons.mpr ⟨q1733, List.forall_mem_cons.mpr ⟨q1738, List.forall_mem_cons.mpr ⟨q1743, List.forall_mem_cons.mpr ⟨q1744, List.forall_mem_cons.mpr ⟨q1745, List.forall_mem_cons.mpr ⟨q1746, List.forall_mem_cons.mpr ⟨q1747, List.forall_mem_cons.mpr ⟨q1760, List.forall_mem_cons.mpr ⟨q1761, List.forall_mem_cons.mpr ⟨q1762, List.forall_mem_cons.mpr ⟨q1763, List.forall_mem_cons.mpr ⟨q1764, List.forall_mem_cons.mpr ⟨q1765, List.forall_mem_cons.mpr ⟨q1766, (fun q h => nomatch h)⟩⟩⟩⟩⟩⟩⟩⟩⟩⟩⟩⟩⟩⟩⟩⟩⟩⟩⟩⟩⟩⟩⟩⟩⟩⟩⟩⟩⟩⟩⟩⟩⟩⟩⟩⟩⟩⟩⟩⟩
theorem gd_str_at : ∀ j, j < 40 → ∃ o k tx, gd_strs[j]? = some (o, k, tx, 8 + 2 * j) ∧ gd_tm j = Term.string o k := by
  intro j hj
  have h : ∀ j, j < 40 → gd_strs[j]? = some ((gd_strs.getD j ("", 0, "", 0)).1, (gd_strs.getD j ("", 0, "", 0)).2.1, (gd_strs.getD j ("", 0, "", 0)).2.2.1, 8 + 2 * j) := by decide +kernel
  exact ⟨_, _, _, h j hj, rfl⟩
theorem gd_str_i : ∀ q ∈ gd_strs, ∃ j, j < 40 ∧ q = ((gd_strs.getD j ("", 0, "", 0)).1, (gd_strs.getD j ("", 0, "", 0)).2.1, (gd_strs.getD j ("", 0, "", 0)).2.2.1, 8 + 2 * j) := by
  intro q hq
  obtain ⟨j, hj⟩ := List.getElem?_of_mem hq
  have hl : j < 40 := (List.getElem?_eq_some_iff.mp hj).1
  have h : ∀ j, j < 40 → gd_strs[j]? = some ((gd_strs.getD j ("", 0, "", 0)).1, (gd_strs.getD j ("", 0, "", 0)).2.1, (gd_strs.getD j ("", 0, "", 0)).2.2.1, 8 + 2 * j) := by decide +kernel
  exact ⟨j, hl, Option.some.inj (hj.symm.trans (h j hl))⟩
/-- what holds at the law's entry -/
theorem gd_start {s : State} {b L : Nat} {xs : Nat → Int32} (ht : ∀ w ∈ lw_tbl, w.before #[Value.ref b] s = true) (hX : va_X b L xs s s.heap) (hb : b < s.heap.size) (hn : gd_nw1.before #[Value.ref b] s = true) :
    ∃ G : gd_G, KN G s ∧ gd_R G (gd_h0 L xs) s.heap ∧ ad G 4 = b ∧ g_b G = s.heap.size := by
  have ha : ∀ w ∈ lw_all, w.before #[Value.ref b] s = true := fun w h => ht w (lw_all_tbl h)
  have hs := flat_of_before _ hn
  have hA : ∀ a : Nat, a < s.heap.size → ¬ (s.heap.size ≤ a) := fun a h => by omega
  have hstr : ∀ j : Nat, ∃ q : Nat × Nat, j < 40 → (gd_tm j).eval #[Value.ref b] s none [] s = some (.ref q.1) ∧ va_O "java/lang/String" q.1 (fun q => s.heap.size ≤ q) s s.heap ∧ va_OF "java/lang/String" "coder" "B" (.int 0) q.1 (fun q => s.heap.size ≤ q) s s.heap ∧ va_OF "java/lang/String" "value" "[B" (.ref q.2) q.1 (fun q => s.heap.size ≤ q) s s.heap ∧ va_T .byte q.2 (gd_sb.getD j []).length (fun k => .int ((gd_sb.getD j []).getD k 0)) (fun q => s.heap.size ≤ q) s s.heap := by
    intro j
    by_cases hj : j < 40
    · obtain ⟨q, hq⟩ := gd_str1 (gd_n6 j hj) (hs _ (gd_n1 j hj)) (hs _ (gd_n2 j hj)) (hs _ (gd_n3 j hj)) (hs _ (gd_n4 j hj)) (fun k hk => hs _ (gd_n5 j hj k hk)) hA
      exact ⟨q, fun _ => hq⟩
    · exact ⟨(0, 0), fun h => absurd h hj⟩
  obtain ⟨sq, hsq⟩ := Classical.axiomOfChoice hstr
  obtain ⟨kp, hkp⟩ := Classical.axiomOfChoice (gd_kinds ht)
  obtain ⟨v1, hv1, hz1⟩ := gd_zq (va_Zqof (A := fun q => s.heap.size ≤ q) (ht _ q689) (ha _ q103) (hs _ gd_n8) hA)
  have hU := vx_Zqof (A := fun q => s.heap.size ≤ q) (ht _ q544) (ha _ q95) (hs _ gd_n9) hA
  have hN := vx_Zqof (A := fun q => s.heap.size ≤ q) (ht _ q546) (ha _ q95) (hs _ gd_n10) hA
  obtain ⟨v2, hv2, hz2⟩ := gd_zq hU.1
  obtain ⟨v3, hv3, hz3⟩ := gd_zq hN.1
  have hz0 := va_Zof (A := fun q => s.heap.size ≤ q) (ht _ q673) (ha _ q101) (va_eqi (hs _ gd_n7)) hA
  obtain ⟨G, hG⟩ : ∃ G : gd_G, G = ((fun n => if n = 0 then .null else if n = 1 then v1 else if n = 2 then v2 else v3), (fun i => if i = 4 then b else if i % 2 = 0 then (sq ((i - 8) / 2)).1 else (sq ((i - 9) / 2)).2), gd_fk, (fun t => (kp t).1), (fun t => (kp t).2), s.heap) := ⟨_, rfl⟩
  have gH : g_H G = s.heap := by rw [hG]; rfl
  have gb : g_b G = s.heap.size := by unfold g_b; rw [gH]
  have gA : gd_A G = fun q => s.heap.size ≤ q := by unfold gd_A; rw [gb]
  have gfk : g_fk G = gd_fk := by rw [hG]; rfl
  have gfz : g_fz G = fun i => if i = 4 then b else if i % 2 = 0 then (sq ((i - 8) / 2)).1 else (sq ((i - 9) / 2)).2 := by rw [hG]; rfl
  have gsp : g_sp G = fun n => if n = 0 then .null else if n = 1 then v1 else if n = 2 then v2 else v3 := by rw [hG]; rfl
  have gdC : g_dC G = fun t => (kp t).1 := by rw [hG]; rfl
  have gdI : g_dI G = fun t => (kp t).2 := by rw [hG]; rfl
  -- the strings' places
  have fev : ∀ j, j < 40 → gd_fk (8 + 2 * j) = 23 ∧ g_fz G (8 + 2 * j) = (sq j).1 := by
    intro j hj
    refine ⟨?_, ?_⟩
    · unfold gd_fk
      rw [if_neg (by omega), if_pos ⟨by omega, by omega⟩, if_pos (by omega)]
    · rw [gfz]
      dsimp only
      rw [if_neg (by omega), if_pos (by omega), show (8 + 2 * j - 8) / 2 = j by omega]
  have fod : ∀ j, j < 40 → gd_fk (9 + 2 * j) = 42 ∧ g_fz G (9 + 2 * j) = (sq j).2 := by
    intro j hj
    refine ⟨?_, ?_⟩
    · unfold gd_fk
      rw [if_neg (by omega), if_pos ⟨by omega, by omega⟩, if_neg (by omega)]
    · rw [gfz]
      dsimp only
      rw [if_neg (by omega), if_neg (by omega), show (9 + 2 * j - 9) / 2 = j by omega]
  have f4 : gd_fk 4 = 41 ∧ g_fz G 4 = b := ⟨rfl, by rw [gfz]; rfl⟩
  have fall : ∀ i, gd_fk i = 0 ∨ i = 4 ∨ (∃ j, j < 40 ∧ i = 8 + 2 * j) ∨ ∃ j, j < 40 ∧ i = 9 + 2 * j := by
    intro i
    by_cases h4 : i = 4
    · exact Or.inr (Or.inl h4)
    · by_cases h8 : 8 ≤ i ∧ i < 88
      · by_cases h2 : i % 2 = 0
        · exact Or.inr (Or.inr (Or.inl ⟨(i - 8) / 2, by omega, by omega⟩))
        · exact Or.inr (Or.inr (Or.inr ⟨(i - 9) / 2, by omega, by omega⟩))
      · refine Or.inl ?_
        unfold gd_fk
        rw [if_neg h4, if_neg h8]
  have lt1 : ∀ j, j < 40 → (sq j).1 < s.heap.size := fun j hj => by
    obtain ⟨-, ⟨cell, h1, -⟩, -⟩ := hsq j hj
    exact (Array.getElem?_eq_some_iff.mp h1).1
  have lt2 : ∀ j, j < 40 → (sq j).2 < s.heap.size := fun j hj => by
    obtain ⟨-, -, -, -, cell, h1, -⟩ := hsq j hj
    exact (Array.getElem?_eq_some_iff.mp h1).1
  have Z : gd_Z G := by
    refine ⟨fun i _ => ?_, fun i _ h0 => ?_, by rw [gsp]; rfl, fun n => ?_, fun i hi => ?_⟩
    · rw [gfk]
      rcases fall i with h | h | ⟨j, hj, h⟩ | ⟨j, hj, h⟩
      · exact Or.inl h
      · rw [h]; exact Or.inr (Or.inr (Or.inl f4.1))
      · rw [h]; exact Or.inr (Or.inl (fev j hj).1)
      · rw [h]; exact Or.inr (Or.inr (Or.inr (fod j hj).1))
    · rw [gfk] at h0
      rw [gb]
      rcases fall i with h | h | ⟨j, hj, h⟩ | ⟨j, hj, h⟩
      · exact absurd h h0
      · rw [h, f4.2]; exact hb
      · rw [h, (fev j hj).2]; exact lt1 j hj
      · rw [h, (fod j hj).2]; exact lt2 j hj
    · rw [gsp]
      dsimp only
      split
      · exact Or.inl rfl
      · split
        · exact hv1
        · split
          · exact hv2
          · exact hv3
    · rw [gfk]
      unfold gd_fk
      rw [if_neg (by omega), if_neg (by omega)]
  have hscr := hX
  obtain ⟨scr, x1, x2, x3, x4, x5⟩ := hscr
  refine ⟨G, ⟨Z, fun t q hq => ?_, fun t ty hty => ?_, fun i ty cell hi hty hc => ?_, fun i hi hk => ?_, fun q hq => ?_, ?_, ?_, ⟨?_, ?_⟩, ⟨?_, ?_⟩, fun w hw hxw => ?_, ?_, ?_, ?_, ?_⟩, ?_, ?_, gb⟩
  · rw [gdC, gdI]; exact (hkp t).1 q hq
  · rw [gdC]; exact (hkp t).2 ty hty
  · rw [gfk] at hty
    rw [gH] at hc
    rcases fall i with h | h | ⟨j, hj, h⟩ | ⟨j, hj, h⟩
    · rw [h] at hty; cases hty
    · rw [h, f4.1] at hty
      rw [h, f4.2, x1] at hc
      cases hty; cases hc
      exact x2
    · rw [h, (fev j hj).1] at hty; cases hty
    · rw [h, (fod j hj).1] at hty
      rw [h, (fod j hj).2] at hc
      obtain ⟨-, -, -, -, cell', t1, t2, -⟩ := hsq j hj
      rw [t1] at hc
      cases hty; cases hc
      exact t2
  · rw [gfk] at hk
    rcases fall i with h | h | ⟨j, hj, h⟩ | ⟨j, hj, h⟩
    · rw [h] at hk; cases hk
    · rw [h, f4.1] at hk; cases hk
    · obtain ⟨s1, s2, s3, s4, s5⟩ := hsq j hj
      rw [gA, gH, h, (fev j hj).2, show 8 + 2 * j + 1 = 9 + 2 * j by omega, (fod j hj).2]
      exact ⟨by omega, s2, s3, s4⟩
    · rw [h, (fod j hj).1] at hk; cases hk
  · obtain ⟨j, hj, rfl⟩ := gd_str_i q hq
    refine vk_R.of (A := #[Value.ref b]) (ht _ (gd_strw _ hq)) ?_
    dsimp only
    rw [(fev j hj).2]
    exact (hsq j hj).1
  · rw [gA, gH]; exact hz0
  · rw [gA, gH, gsp]; exact hz1
  · rw [gA, gH, gsp]; exact hz2
  · rw [gA, gH]; exact hU
  · rw [gA, gH, gsp]; exact hz3
  · rw [gA, gH]; exact hN
  · have h := ht w hw
    unfold gd_xw at hxw
    split at hxw
    · exact va_Nw.of rfl h
    · exact va_Nw.of rfl h
    · exact va_Nw.of rfl h
    · exact va_Nw.of rfl h
    · exact va_AO.of h
    · cases hxw
  · exact va_Fw.of (ht _ q1081) (ht _ q1080) (ht _ q1086) (ht _ q1084) (ht _ q1082)
  · exact va_Fw.of (ht _ q1081) (ht _ q1080) (ht _ q1092) (ht _ q1090) (ht _ q1088)
  · exact va_Fw.of (ht _ q1081) (ht _ q1080) (ht _ q1102) (ht _ q1100) (ht _ q1098)
  · exact va_Nc.of (hs _ gd_n11)
  · refine ⟨fun q _ => by rw [gH], Nat.le_refl _, by rw [gb]; rfl, fun i hi => ?_, fun i hi => by rw [gfk]; rfl, fun i hi hk => ?_, fun i => ?_⟩
    · show gd_fk i = 0
      have hi : 96 ≤ i := hi
      unfold gd_fk
      rw [if_neg (by omega), if_neg (by omega)]
    · rw [gfk] at hk
      rcases fall i with h | h | ⟨j, hj, h⟩ | ⟨j, hj, h⟩
      · rw [h] at hk; cases hk
      · rw [h, f4.1] at hk; cases hk
      · refine ⟨?_, ?_⟩
        · show (if _ then _ else _) = _
          rw [if_pos ⟨rfl, by omega, by omega, by omega⟩]
        · show (if _ then _ else if _ then _ else _) = _
          rw [if_neg (by omega), if_neg (by omega)]
      · rw [h, (fod j hj).1] at hk; cases hk
    · rcases fall i with h | h | ⟨j, hj, h⟩ | ⟨j, hj, h⟩
      · exact gd_dead h
      · subst h
        refine ⟨fun q e => (by cases e), fun ty e => (by cases e), fun ty e => ⟨scr, ?_, x3, ⟨Nat.le_of_eq x4.symm, ?_⟩, fun j hj => ?_⟩⟩
        · rw [ad_lo G (by omega), f4.2]; exact x1
        · rw [x4]; rfl
        · exact x5 j hj
      · subst h
        have e0 : gT (gd_h0 L xs) (8 + 2 * j) = 23 := (fev j hj).1
        refine ⟨fun q e => ?_, fun ty e => ?_, fun ty e => ?_⟩ <;> (rw [e0] at e; cases e)
      · subst h
        have e0 : gT (gd_h0 L xs) (9 + 2 * j) = 42 := (fod j hj).1
        obtain ⟨-, -, -, -, cell, t1, t2, t3, t4, t5, t6, -⟩ := hsq j hj
        have eL : gL (gd_h0 L xs) (9 + 2 * j) = (gd_sb.getD j []).length := by
          show (if _ then _ else if _ then _ else _) = _
          rw [if_neg (by omega), if_pos ⟨by omega, by omega, by omega⟩, show (9 + 2 * j - 9) / 2 = j by omega]
        have eI : ∀ k, gI (gd_h0 L xs) (9 + 2 * j) k = (gd_sb.getD j []).getD k 0 := by
          intro k
          show (if _ then _ else if _ then _ else _) = _
          rw [if_neg (by omega), if_pos ⟨by omega, by omega, by omega⟩, show (9 + 2 * j - 9) / 2 = j by omega]
        refine ⟨fun q e => (by rw [e0] at e; cases e), fun ty e => (by rw [e0] at e; cases e), fun ty e => ⟨cell, ?_, t3, ⟨by rw [eL]; exact t4, by rw [eL]; exact t5⟩, fun k hk => ?_⟩⟩
        · rw [ad_lo G (by omega), (fod j hj).2]; exact t1
        · rw [eI]; rw [eL] at hk; exact t6 k hk
  · rw [ad_lo G (by omega), f4.2]

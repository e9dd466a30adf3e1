/-! segment equations -/
set_option maxRecDepth 100000
theorem ic9 {α : Type} {c : Prop} {ic : Decidable c} {a a' b b' : α} (h : a = a') (h2 : b = b') : (if c then a else b) = if c then a' else b' := by rw [h, h2]
theorem ia9 {α : Type} {c q : Prop} {i1 : Decidable c} {i2 : Decidable (c ∧ q)} {a b : α} (hq : q) : @ite α (c ∧ q) i2 a b = @ite α c i1 a b := by
  by_cases hc : c
  · rw [if_pos ⟨hc, hq⟩, if_pos hc]
  · rw [if_neg (fun z => hc z.1), if_neg hc]
theorem gs_nif (P : gd_P) (d k pc : Nat) (L : List Value) (c : Prop) (ic : Decidable c) (x y : Option gd_SR) : gs P d k pc L (nth (if c then x else y)) = if c then gs P d k pc L (nth x) else gs P d k pc L (nth y) := by
  cases ic with
  | isTrue h => rfl
  | isFalse h => rfl
theorem gs_slk (P : gd_P) (d k pc : Nat) (L0 : List Value) (tk : List (Nat × Nat)) (t : Nat) (as : List Value) (q : Nat) (L r : List Value) (h : gd_H) : gs P d k pc L0 (match slk tk t with
    | some k' => cl_ k' as q L r h
    | none => none) = match slk tk t with
    | some k' => gc P d k pc q L r (run P d k' as h)
    | none => none := by
  cases slk tk t <;> rfl
theorem gs_div {P : gd_P} {d k pc : Nat} {L0 : List Value} {q : Nat} {L r : List Value} {x y : Int32} {h : gd_H} (hy : y ≠ 0) : gs P d k pc L0 (i_idiv q L (.int y :: .int x :: r) h) = go P d k q L (.int (x / y) :: r) h := by
  show gs P d k pc L0 (if y = 0 then none else nx q L (.int (x / y) :: r) h) = _
  rw [if_neg hy]
  rfl
theorem gs_rem {P : gd_P} {d k pc : Nat} {L0 : List Value} {q : Nat} {L r : List Value} {x y : Int32} {h : gd_H} (hy : y ≠ 0) : gs P d k pc L0 (i_irem q L (.int y :: .int x :: r) h) = go P d k q L (.int (x - x / y * y) :: r) h := by
  show gs P d k pc L0 (if y = 0 then none else nx q L (.int (x - x / y * y) :: r) h) = _
  rw [if_neg hy]
  rfl
theorem gs_divm {P : gd_P} {d k pc : Nat} {L0 : List Value} {q : Nat} {L r : List Value} {x y : Int32} {h : gd_H} (hy : y ≠ 0) : gs P d k pc L0 (nth (i_idiv q L (.int y :: .int x :: r) h)) = go P d k q L (.int (x / y) :: r) h := by
  show gs P d k pc L0 (nth (if y = 0 then none else nx q L (.int (x / y) :: r) h)) = _
  rw [if_neg hy]
  rfl
theorem gs_remm {P : gd_P} {d k pc : Nat} {L0 : List Value} {q : Nat} {L r : List Value} {x y : Int32} {h : gd_H} (hy : y ≠ 0) : gs P d k pc L0 (nth (i_irem q L (.int y :: .int x :: r) h)) = go P d k q L (.int (x - x / y * y) :: r) h := by
  show gs P d k pc L0 (nth (if y = 0 then none else nx q L (.int (x - x / y * y) :: r) h)) = _
  rw [if_neg hy]
  rfl
theorem gs_cF {P : gd_P} {d k pc : Nat} {L0 : List Value} {tk : List (Nat × Nat)} {n q a : Nat} {L st r : List Value} {h : gd_H} (e : st.drop n = .ref a :: r) (hr : r.length ≤ 8) : gs P d k pc L0 (i_cF tk n q L st h) = match slk tk (gT h a) with
    | some k' => gc P d k pc q L r (run P d k' (.ref a :: (st.take n).reverse) h)
    | none => none := by
  unfold i_cF
  rw [e]
  show gs P d k pc L0 (if r.length ≤ 8 then _ else none) = _
  rw [if_pos hr]
  cases slk tk (gT h a) <;> rfl
theorem gs_cFm {P : gd_P} {d k pc : Nat} {L0 : List Value} {tk : List (Nat × Nat)} {n q a : Nat} {L st r : List Value} {h : gd_H} (e : st.drop n = .ref a :: r) (hr : r.length ≤ 8) : gs P d k pc L0 (nth (i_cF tk n q L st h)) = match slk tk (gT h a) with
    | some k' => gc P d k pc q L r (run P d k' (.ref a :: (st.take n).reverse) h)
    | none => none := by
  unfold i_cF
  rw [e]
  show gs P d k pc L0 (nth (if r.length ≤ 8 then _ else none)) = _
  rw [if_pos hr]
  cases slk tk (gT h a) <;> rfl

theorem x0_0 (d : Nat) (L st : List Value) (h : gd_H) : go gd_P0 d 0 0 L st h = gs gd_P0 d 0 0 L (i_ald 0 1 L st h) := go_eq gd_P0 d 0 0 L st h
theorem x0_1 (d : Nat) (L st : List Value) (h : gd_H) : go gd_P0 d 0 1 L st h = gs gd_P0 d 0 1 L (i_oin 4 L st h) := go_eq gd_P0 d 0 1 L st h
theorem x0_4 (d : Nat) (L st : List Value) (h : gd_H) : go gd_P0 d 0 4 L st h = gs gd_P0 d 0 4 L (i_msk [true, true, true, true, true] (i_ald 0 5) L st h) := go_eq gd_P0 d 0 4 L st h
theorem x0_5 (d : Nat) (L st : List Value) (h : gd_H) : go gd_P0 d 0 5 L st h = gs gd_P0 d 0 5 L (i_ald 0 6 L st h) := go_eq gd_P0 d 0 5 L st h
theorem x0_6 (d : Nat) (L st : List Value) (h : gd_H) : go gd_P0 d 0 6 L st h = gs gd_P0 d 0 6 L (i_putR 11 0 9 L st h) := go_eq gd_P0 d 0 6 L st h
theorem x0_9 (d : Nat) (L st : List Value) (h : gd_H) : go gd_P0 d 0 9 L st h = gs gd_P0 d 0 9 L (i_ald 0 10 L st h) := go_eq gd_P0 d 0 9 L st h
theorem x0_10 (d : Nat) (L st : List Value) (h : gd_H) : go gd_P0 d 0 10 L st h = gs gd_P0 d 0 10 L (i_psh (.ref 2) 13 L st h) := go_eq gd_P0 d 0 10 L st h
theorem x0_13 (d : Nat) (L st : List Value) (h : gd_H) : go gd_P0 d 0 13 L st h = gs gd_P0 d 0 13 L (i_putR 11 1 16 L st h) := go_eq gd_P0 d 0 13 L st h
theorem x0_16 (d : Nat) (L st : List Value) (h : gd_H) : go gd_P0 d 0 16 L st h = gs gd_P0 d 0 16 L (i_ald 0 17 L st h) := go_eq gd_P0 d 0 16 L st h
theorem x0_17 (d : Nat) (L st : List Value) (h : gd_H) : go gd_P0 d 0 17 L st h = gs gd_P0 d 0 17 L (i_psh (.ref 3) 20 L st h) := go_eq gd_P0 d 0 17 L st h
theorem x0_20 (d : Nat) (L st : List Value) (h : gd_H) : go gd_P0 d 0 20 L st h = gs gd_P0 d 0 20 L (i_putR 11 2 23 L st h) := go_eq gd_P0 d 0 20 L st h
theorem x0_23 (d : Nat) (L st : List Value) (h : gd_H) : go gd_P0 d 0 23 L st h = gs gd_P0 d 0 23 L (i_ild 4 25 L st h) := go_eq gd_P0 d 0 23 L st h
theorem x0_25 (d : Nat) (L st : List Value) (h : gd_H) : go gd_P0 d 0 25 L st h = gs gd_P0 d 0 25 L (i_ifeq 36 28 L st h) := go_eq gd_P0 d 0 25 L st h
theorem x0_28 (d : Nat) (L st : List Value) (h : gd_H) : go gd_P0 d 0 28 L st h = gs gd_P0 d 0 28 L (i_ald 0 29 L st h) := go_eq gd_P0 d 0 28 L st h
theorem x0_29 (d : Nat) (L st : List Value) (h : gd_H) : go gd_P0 d 0 29 L st h = gs gd_P0 d 0 29 L (i_stk L st h) := go_eq gd_P0 d 0 29 L st h
theorem x0_32 (d : Nat) (L st : List Value) (h : gd_H) : go gd_P0 d 0 32 L st h = gs gd_P0 d 0 32 L (i_msk [true, true, true, true, false] (i_pop 33) L st h) := go_eq gd_P0 d 0 32 L st h
theorem x0_33 (d : Nat) (L st : List Value) (h : gd_H) : go gd_P0 d 0 33 L st h = gs gd_P0 d 0 33 L (i_goto 41 L st h) := go_eq gd_P0 d 0 33 L st h
theorem x0_36 (d : Nat) (L st : List Value) (h : gd_H) : go gd_P0 d 0 36 L st h = gs gd_P0 d 0 36 L (i_ald 0 37 L st h) := go_eq gd_P0 d 0 36 L st h
theorem x0_37 (d : Nat) (L st : List Value) (h : gd_H) : go gd_P0 d 0 37 L st h = gs gd_P0 d 0 37 L (i_psh (.ref 0) 38 L st h) := go_eq gd_P0 d 0 37 L st h
theorem x0_38 (d : Nat) (L st : List Value) (h : gd_H) : go gd_P0 d 0 38 L st h = gs gd_P0 d 0 38 L (i_putR 11 1 41 L st h) := go_eq gd_P0 d 0 38 L st h
theorem x0_41 (d : Nat) (L st : List Value) (h : gd_H) : go gd_P0 d 0 41 L st h = gs gd_P0 d 0 41 L (i_msk [true, true, true, true, false] (i_ald 0 42) L st h) := go_eq gd_P0 d 0 41 L st h
theorem x0_42 (d : Nat) (L st : List Value) (h : gd_H) : go gd_P0 d 0 42 L st h = gs gd_P0 d 0 42 L (i_ald 1 43 L st h) := go_eq gd_P0 d 0 42 L st h
theorem x0_43 (d : Nat) (L st : List Value) (h : gd_H) : go gd_P0 d 0 43 L st h = gs gd_P0 d 0 43 L (i_putR 11 3 46 L st h) := go_eq gd_P0 d 0 43 L st h
theorem x0_46 (d : Nat) (L st : List Value) (h : gd_H) : go gd_P0 d 0 46 L st h = gs gd_P0 d 0 46 L (i_ald 0 47 L st h) := go_eq gd_P0 d 0 46 L st h
theorem x0_47 (d : Nat) (L st : List Value) (h : gd_H) : go gd_P0 d 0 47 L st h = gs gd_P0 d 0 47 L (i_ald 2 48 L st h) := go_eq gd_P0 d 0 47 L st h
theorem x0_48 (d : Nat) (L st : List Value) (h : gd_H) : go gd_P0 d 0 48 L st h = gs gd_P0 d 0 48 L (i_putR 11 0 51 L st h) := go_eq gd_P0 d 0 48 L st h
theorem x0_51 (d : Nat) (L st : List Value) (h : gd_H) : go gd_P0 d 0 51 L st h = gs gd_P0 d 0 51 L (i_ild 3 52 L st h) := go_eq gd_P0 d 0 51 L st h
theorem x0_52 (d : Nat) (L st : List Value) (h : gd_H) : go gd_P0 d 0 52 L st h = gs gd_P0 d 0 52 L (i_ifne 60 55 L st h) := go_eq gd_P0 d 0 52 L st h
theorem x0_55 (d : Nat) (L st : List Value) (h : gd_H) : go gd_P0 d 0 55 L st h = gs gd_P0 d 0 55 L (i_ald 0 56 L st h) := go_eq gd_P0 d 0 55 L st h
theorem x0_56 (d : Nat) (L st : List Value) (h : gd_H) : go gd_P0 d 0 56 L st h = gs gd_P0 d 0 56 L (i_psh (.ref 0) 57 L st h) := go_eq gd_P0 d 0 56 L st h
theorem x0_57 (d : Nat) (L st : List Value) (h : gd_H) : go gd_P0 d 0 57 L st h = gs gd_P0 d 0 57 L (i_putR 11 2 60 L st h) := go_eq gd_P0 d 0 57 L st h
theorem x0_60 (d : Nat) (L st : List Value) (h : gd_H) : go gd_P0 d 0 60 L st h = gs gd_P0 d 0 60 L (i_msk [false, false, false, false, false] (i_ret) L st h) := go_eq gd_P0 d 0 60 L st h
theorem s0_0 (d : Nat) (h : gd_H) (v0 : Nat) (v1 : Nat) (v2 : Nat) (v3 : Int32) (v4 : Int32) : go gd_P0 d 0 0 [.ref v0, .ref v1, .ref v2, .int v3, .int v4] [] h =
    if 4 ≤ v0 then go gd_P0 d 0 4 [.ref v0, .ref v1, .ref v2, .int v3, .int v4] [] h else none :=
  (x0_0 ..).trans ((x0_1 ..).trans ((gs_if ..).trans ((ia9 (by simp)).trans (ic9 (rfl) rfl))))
theorem s0_4 (d : Nat) (h : gd_H) (v0 : Nat) (v1 : Nat) (v2 : Nat) (v3 : Int32) (v4 : Int32) : go gd_P0 d 0 4 [.ref v0, .ref v1, .ref v2, .int v3, .int v4] [] h =
    if gT h v0 = 11 then if gT h v0 = 11 then if gT h v0 = 11 then if v4 = 0 then if gT h v0 = 11 then go gd_P0 d 0 41 [.ref v0, .ref v1, .ref v2, .int v3, .int v4] [] (wR h (up1 (up1 (up1 (up1 (gR h) v0 0 v0) v0 1 2) v0 2 3) v0 1 0)) else none else none else none else none else none :=
  (x0_4 ..).trans ((x0_5 ..).trans ((x0_6 ..).trans ((gs_if ..).trans (ic9 ((x0_9 ..).trans ((x0_10 ..).trans ((x0_13 ..).trans ((gs_if ..).trans (ic9 ((x0_16 ..).trans ((x0_17 ..).trans ((x0_20 ..).trans ((gs_if ..).trans (ic9 ((x0_23 ..).trans ((x0_25 ..).trans ((gs_if ..).trans (ic9 ((x0_36 ..).trans ((x0_37 ..).trans ((x0_38 ..).trans ((gs_if ..).trans (ic9 (rfl) rfl))))) ((x0_28 ..).trans ((x0_29 ..))))))) rfl))))) rfl))))) rfl))))
theorem s0_32 (d : Nat) (h : gd_H) (v0 : Nat) (v1 : Nat) (v2 : Nat) (v3 : Int32) (w4 : Value) (z0 : Nat) : go gd_P0 d 0 32 [.ref v0, .ref v1, .ref v2, .int v3, w4] [.ref z0] h =
    go gd_P0 d 0 41 [.ref v0, .ref v1, .ref v2, .int v3, .null] [] h :=
  (x0_32 ..).trans ((x0_33 ..))
theorem s0_41 (d : Nat) (h : gd_H) (v0 : Nat) (v1 : Nat) (v2 : Nat) (v3 : Int32) (w4 : Value) : go gd_P0 d 0 41 [.ref v0, .ref v1, .ref v2, .int v3, w4] [] h =
    if gT h v0 = 11 then if gT h v0 = 11 then if v3 = 0 then if gT h v0 = 11 then go gd_P0 d 0 60 [.ref v0, .ref v1, .ref v2, .int v3, .null] [] (wR h (up1 (up1 (up1 (gR h) v0 3 v1) v0 0 v2) v0 2 0)) else none else go gd_P0 d 0 60 [.ref v0, .ref v1, .ref v2, .int v3, .null] [] (wR h (up1 (up1 (gR h) v0 3 v1) v0 0 v2)) else none else none :=
  (x0_41 ..).trans ((x0_42 ..).trans ((x0_43 ..).trans ((gs_if ..).trans (ic9 ((x0_46 ..).trans ((x0_47 ..).trans ((x0_48 ..).trans ((gs_if ..).trans (ic9 ((x0_51 ..).trans ((x0_52 ..).trans ((gs_if ..).trans (ic9 ((x0_55 ..).trans ((x0_56 ..).trans ((x0_57 ..).trans ((gs_if ..).trans (ic9 (rfl) rfl))))) (rfl))))) rfl))))) rfl))))
theorem s0_60 (d : Nat) (h : gd_H) (w0 : Value) (w1 : Value) (w2 : Value) (w3 : Value) (w4 : Value) : go gd_P0 d 0 60 [w0, w1, w2, w3, w4] [] h =
    some (.inl none, h) :=
  (x0_60 ..)
theorem r0 (d : Nat) (h : gd_H) (v0 : Nat) (v1 : Nat) (v2 : Nat) (v3 : Int32) (v4 : Int32) : run gd_P0 (d + 1) 0 [.ref v0, .ref v1, .ref v2, .int v3, .int v4] h = go gd_P0 d 0 0 [.ref v0, .ref v1, .ref v2, .int v3, .int v4] [] h := run_succ gd_P0 d 0 [.ref v0, .ref v1, .ref v2, .int v3, .int v4] h (Nat.le_of_ble_eq_true rfl)
theorem x1_0 (d : Nat) (L st : List Value) (h : gd_H) : go gd_P0 d 1 0 L st h = gs gd_P0 d 1 0 L (i_ald 0 1 L st h) := go_eq gd_P0 d 1 0 L st h
theorem x1_1 (d : Nat) (L st : List Value) (h : gd_H) : go gd_P0 d 1 1 L st h = gs gd_P0 d 1 1 L (i_ald 1 2 L st h) := go_eq gd_P0 d 1 1 L st h
theorem x1_2 (d : Nat) (L st : List Value) (h : gd_H) : go gd_P0 d 1 2 L st h = gs gd_P0 d 1 2 L (i_ald 2 3 L st h) := go_eq gd_P0 d 1 2 L st h
theorem x1_3 (d : Nat) (L st : List Value) (h : gd_H) : go gd_P0 d 1 3 L st h = gs gd_P0 d 1 3 L (i_ild 3 4 L st h) := go_eq gd_P0 d 1 3 L st h
theorem x1_4 (d : Nat) (L st : List Value) (h : gd_H) : go gd_P0 d 1 4 L st h = gs gd_P0 d 1 4 L (i_ild 4 6 L st h) := go_eq gd_P0 d 1 4 L st h
theorem x1_6 (d : Nat) (L st : List Value) (h : gd_H) : go gd_P0 d 1 6 L st h = gs gd_P0 d 1 6 L (i_cV 0 4 11 9 L st h) := go_eq gd_P0 d 1 6 L st h
theorem x1_9 (d : Nat) (L st : List Value) (h : gd_H) : go gd_P0 d 1 9 L st h = gs gd_P0 d 1 9 L (i_msk [false, false, false, false, false] (i_ret) L st h) := go_eq gd_P0 d 1 9 L st h
theorem s1_0 (d : Nat) (h : gd_H) (v0 : Nat) (v1 : Nat) (v2 : Nat) (v3 : Int32) (v4 : Int32) : go gd_P0 d 1 0 [.ref v0, .ref v1, .ref v2, .int v3, .int v4] [] h =
    if gT h v0 = 11 then gc gd_P0 d 1 6 9 [.ref v0, .ref v1, .ref v2, .int v3, .int v4] [] (run gd_P0 d 0 [.ref v0, .ref v1, .ref v2, .int v3, .int v4] h) else none :=
  (x1_0 ..).trans ((x1_1 ..).trans ((x1_2 ..).trans ((x1_3 ..).trans ((x1_4 ..).trans ((x1_6 ..).trans ((gs_if ..).trans ((ia9 (by simp)).trans (ic9 rfl rfl))))))))
theorem s1_9 (d : Nat) (h : gd_H) (w0 : Value) (w1 : Value) (w2 : Value) (w3 : Value) (w4 : Value) : go gd_P0 d 1 9 [w0, w1, w2, w3, w4] [] h =
    some (.inl none, h) :=
  (x1_9 ..)
theorem r1 (d : Nat) (h : gd_H) (v0 : Nat) (v1 : Nat) (v2 : Nat) (v3 : Int32) (v4 : Int32) : run gd_P0 (d + 1) 1 [.ref v0, .ref v1, .ref v2, .int v3, .int v4] h = go gd_P0 d 1 0 [.ref v0, .ref v1, .ref v2, .int v3, .int v4] [] h := run_succ gd_P0 d 1 [.ref v0, .ref v1, .ref v2, .int v3, .int v4] h (Nat.le_of_ble_eq_true rfl)
theorem x2_0 (d : Nat) (L st : List Value) (h : gd_H) : go gd_P0 d 2 0 L st h = gs gd_P0 d 2 0 L (i_ild 0 1 L st h) := go_eq gd_P0 d 2 0 L st h
theorem x2_1 (d : Nat) (L st : List Value) (h : gd_H) : go gd_P0 d 2 1 L st h = gs gd_P0 d 2 1 L (i_ild 0 2 L st h) := go_eq gd_P0 d 2 1 L st h
theorem x2_2 (d : Nat) (L st : List Value) (h : gd_H) : go gd_P0 d 2 2 L st h = gs gd_P0 d 2 2 L (i_psh (.int 1) 3 L st h) := go_eq gd_P0 d 2 2 L st h
theorem x2_3 (d : Nat) (L st : List Value) (h : gd_H) : go gd_P0 d 2 3 L st h = gs gd_P0 d 2 3 L (i_iushr 4 L st h) := go_eq gd_P0 d 2 3 L st h
theorem x2_4 (d : Nat) (L st : List Value) (h : gd_H) : go gd_P0 d 2 4 L st h = gs gd_P0 d 2 4 L (i_psh (.int 1431655765) 7 L st h) := go_eq gd_P0 d 2 4 L st h
theorem x2_7 (d : Nat) (L st : List Value) (h : gd_H) : go gd_P0 d 2 7 L st h = gs gd_P0 d 2 7 L (i_iand 8 L st h) := go_eq gd_P0 d 2 7 L st h
theorem x2_8 (d : Nat) (L st : List Value) (h : gd_H) : go gd_P0 d 2 8 L st h = gs gd_P0 d 2 8 L (i_isub 9 L st h) := go_eq gd_P0 d 2 8 L st h
theorem x2_9 (d : Nat) (L st : List Value) (h : gd_H) : go gd_P0 d 2 9 L st h = gs gd_P0 d 2 9 L (i_ist 0 10 L st h) := go_eq gd_P0 d 2 9 L st h
theorem x2_10 (d : Nat) (L st : List Value) (h : gd_H) : go gd_P0 d 2 10 L st h = gs gd_P0 d 2 10 L (i_ild 0 11 L st h) := go_eq gd_P0 d 2 10 L st h
theorem x2_11 (d : Nat) (L st : List Value) (h : gd_H) : go gd_P0 d 2 11 L st h = gs gd_P0 d 2 11 L (i_psh (.int 858993459) 14 L st h) := go_eq gd_P0 d 2 11 L st h
theorem x2_14 (d : Nat) (L st : List Value) (h : gd_H) : go gd_P0 d 2 14 L st h = gs gd_P0 d 2 14 L (i_iand 15 L st h) := go_eq gd_P0 d 2 14 L st h
theorem x2_15 (d : Nat) (L st : List Value) (h : gd_H) : go gd_P0 d 2 15 L st h = gs gd_P0 d 2 15 L (i_ild 0 16 L st h) := go_eq gd_P0 d 2 15 L st h
theorem x2_16 (d : Nat) (L st : List Value) (h : gd_H) : go gd_P0 d 2 16 L st h = gs gd_P0 d 2 16 L (i_psh (.int 2) 17 L st h) := go_eq gd_P0 d 2 16 L st h
theorem x2_17 (d : Nat) (L st : List Value) (h : gd_H) : go gd_P0 d 2 17 L st h = gs gd_P0 d 2 17 L (i_iushr 18 L st h) := go_eq gd_P0 d 2 17 L st h
theorem x2_18 (d : Nat) (L st : List Value) (h : gd_H) : go gd_P0 d 2 18 L st h = gs gd_P0 d 2 18 L (i_psh (.int 858993459) 21 L st h) := go_eq gd_P0 d 2 18 L st h
theorem x2_21 (d : Nat) (L st : List Value) (h : gd_H) : go gd_P0 d 2 21 L st h = gs gd_P0 d 2 21 L (i_iand 22 L st h) := go_eq gd_P0 d 2 21 L st h
theorem x2_22 (d : Nat) (L st : List Value) (h : gd_H) : go gd_P0 d 2 22 L st h = gs gd_P0 d 2 22 L (i_iadd 23 L st h) := go_eq gd_P0 d 2 22 L st h
theorem x2_23 (d : Nat) (L st : List Value) (h : gd_H) : go gd_P0 d 2 23 L st h = gs gd_P0 d 2 23 L (i_ist 0 24 L st h) := go_eq gd_P0 d 2 23 L st h
theorem x2_24 (d : Nat) (L st : List Value) (h : gd_H) : go gd_P0 d 2 24 L st h = gs gd_P0 d 2 24 L (i_ild 0 25 L st h) := go_eq gd_P0 d 2 24 L st h
theorem x2_25 (d : Nat) (L st : List Value) (h : gd_H) : go gd_P0 d 2 25 L st h = gs gd_P0 d 2 25 L (i_ild 0 26 L st h) := go_eq gd_P0 d 2 25 L st h
theorem x2_26 (d : Nat) (L st : List Value) (h : gd_H) : go gd_P0 d 2 26 L st h = gs gd_P0 d 2 26 L (i_psh (.int 4) 27 L st h) := go_eq gd_P0 d 2 26 L st h
theorem x2_27 (d : Nat) (L st : List Value) (h : gd_H) : go gd_P0 d 2 27 L st h = gs gd_P0 d 2 27 L (i_iushr 28 L st h) := go_eq gd_P0 d 2 27 L st h
theorem x2_28 (d : Nat) (L st : List Value) (h : gd_H) : go gd_P0 d 2 28 L st h = gs gd_P0 d 2 28 L (i_iadd 29 L st h) := go_eq gd_P0 d 2 28 L st h
theorem x2_29 (d : Nat) (L st : List Value) (h : gd_H) : go gd_P0 d 2 29 L st h = gs gd_P0 d 2 29 L (i_psh (.int 252645135) 32 L st h) := go_eq gd_P0 d 2 29 L st h
theorem x2_32 (d : Nat) (L st : List Value) (h : gd_H) : go gd_P0 d 2 32 L st h = gs gd_P0 d 2 32 L (i_iand 33 L st h) := go_eq gd_P0 d 2 32 L st h
theorem x2_33 (d : Nat) (L st : List Value) (h : gd_H) : go gd_P0 d 2 33 L st h = gs gd_P0 d 2 33 L (i_ist 0 34 L st h) := go_eq gd_P0 d 2 33 L st h
theorem x2_34 (d : Nat) (L st : List Value) (h : gd_H) : go gd_P0 d 2 34 L st h = gs gd_P0 d 2 34 L (i_ild 0 35 L st h) := go_eq gd_P0 d 2 34 L st h
theorem x2_35 (d : Nat) (L st : List Value) (h : gd_H) : go gd_P0 d 2 35 L st h = gs gd_P0 d 2 35 L (i_ild 0 36 L st h) := go_eq gd_P0 d 2 35 L st h
theorem x2_36 (d : Nat) (L st : List Value) (h : gd_H) : go gd_P0 d 2 36 L st h = gs gd_P0 d 2 36 L (i_psh (.int 8) 38 L st h) := go_eq gd_P0 d 2 36 L st h
theorem x2_38 (d : Nat) (L st : List Value) (h : gd_H) : go gd_P0 d 2 38 L st h = gs gd_P0 d 2 38 L (i_iushr 39 L st h) := go_eq gd_P0 d 2 38 L st h
theorem x2_39 (d : Nat) (L st : List Value) (h : gd_H) : go gd_P0 d 2 39 L st h = gs gd_P0 d 2 39 L (i_iadd 40 L st h) := go_eq gd_P0 d 2 39 L st h
theorem x2_40 (d : Nat) (L st : List Value) (h : gd_H) : go gd_P0 d 2 40 L st h = gs gd_P0 d 2 40 L (i_ist 0 41 L st h) := go_eq gd_P0 d 2 40 L st h
theorem x2_41 (d : Nat) (L st : List Value) (h : gd_H) : go gd_P0 d 2 41 L st h = gs gd_P0 d 2 41 L (i_ild 0 42 L st h) := go_eq gd_P0 d 2 41 L st h
theorem x2_42 (d : Nat) (L st : List Value) (h : gd_H) : go gd_P0 d 2 42 L st h = gs gd_P0 d 2 42 L (i_ild 0 43 L st h) := go_eq gd_P0 d 2 42 L st h
theorem x2_43 (d : Nat) (L st : List Value) (h : gd_H) : go gd_P0 d 2 43 L st h = gs gd_P0 d 2 43 L (i_psh (.int 16) 45 L st h) := go_eq gd_P0 d 2 43 L st h
theorem x2_45 (d : Nat) (L st : List Value) (h : gd_H) : go gd_P0 d 2 45 L st h = gs gd_P0 d 2 45 L (i_iushr 46 L st h) := go_eq gd_P0 d 2 45 L st h
theorem x2_46 (d : Nat) (L st : List Value) (h : gd_H) : go gd_P0 d 2 46 L st h = gs gd_P0 d 2 46 L (i_iadd 47 L st h) := go_eq gd_P0 d 2 46 L st h
theorem x2_47 (d : Nat) (L st : List Value) (h : gd_H) : go gd_P0 d 2 47 L st h = gs gd_P0 d 2 47 L (i_ist 0 48 L st h) := go_eq gd_P0 d 2 47 L st h
theorem x2_48 (d : Nat) (L st : List Value) (h : gd_H) : go gd_P0 d 2 48 L st h = gs gd_P0 d 2 48 L (i_ild 0 49 L st h) := go_eq gd_P0 d 2 48 L st h
theorem x2_49 (d : Nat) (L st : List Value) (h : gd_H) : go gd_P0 d 2 49 L st h = gs gd_P0 d 2 49 L (i_psh (.int 63) 51 L st h) := go_eq gd_P0 d 2 49 L st h
theorem x2_51 (d : Nat) (L st : List Value) (h : gd_H) : go gd_P0 d 2 51 L st h = gs gd_P0 d 2 51 L (i_iand 52 L st h) := go_eq gd_P0 d 2 51 L st h
theorem x2_52 (d : Nat) (L st : List Value) (h : gd_H) : go gd_P0 d 2 52 L st h = gs gd_P0 d 2 52 L (i_iret L st h) := go_eq gd_P0 d 2 52 L st h
theorem s2_0 (d : Nat) (h : gd_H) (v0 : Int32) : go gd_P0 d 2 0 [.int v0] [] h =
    some (.inl (some (.int ((((((((v0 - (((v0.toUInt32 >>> ((1 : Int32).toUInt32 &&& Int32.toUInt32 31)).toInt32) &&& (1431655765 : Int32))) &&& (858993459 : Int32)) + ((((v0 - (((v0.toUInt32 >>> ((1 : Int32).toUInt32 &&& Int32.toUInt32 31)).toInt32) &&& (1431655765 : Int32))).toUInt32 >>> ((2 : Int32).toUInt32 &&& Int32.toUInt32 31)).toInt32) &&& (858993459 : Int32))) + (((((v0 - (((v0.toUInt32 >>> ((1 : Int32).toUInt32 &&& Int32.toUInt32 31)).toInt32) &&& (1431655765 : Int32))) &&& (858993459 : Int32)) + ((((v0 - (((v0.toUInt32 >>> ((1 : Int32).toUInt32 &&& Int32.toUInt32 31)).toInt32) &&& (1431655765 : Int32))).toUInt32 >>> ((2 : Int32).toUInt32 &&& Int32.toUInt32 31)).toInt32) &&& (858993459 : Int32))).toUInt32 >>> ((4 : Int32).toUInt32 &&& Int32.toUInt32 31)).toInt32)) &&& (252645135 : Int32)) + (((((((v0 - (((v0.toUInt32 >>> ((1 : Int32).toUInt32 &&& Int32.toUInt32 31)).toInt32) &&& (1431655765 : Int32))) &&& (858993459 : Int32)) + ((((v0 - (((v0.toUInt32 >>> ((1 : Int32).toUInt32 &&& Int32.toUInt32 31)).toInt32) &&& (1431655765 : Int32))).toUInt32 >>> ((2 : Int32).toUInt32 &&& Int32.toUInt32 31)).toInt32) &&& (858993459 : Int32))) + (((((v0 - (((v0.toUInt32 >>> ((1 : Int32).toUInt32 &&& Int32.toUInt32 31)).toInt32) &&& (1431655765 : Int32))) &&& (858993459 : Int32)) + ((((v0 - (((v0.toUInt32 >>> ((1 : Int32).toUInt32 &&& Int32.toUInt32 31)).toInt32) &&& (1431655765 : Int32))).toUInt32 >>> ((2 : Int32).toUInt32 &&& Int32.toUInt32 31)).toInt32) &&& (858993459 : Int32))).toUInt32 >>> ((4 : Int32).toUInt32 &&& Int32.toUInt32 31)).toInt32)) &&& (252645135 : Int32)).toUInt32 >>> ((8 : Int32).toUInt32 &&& Int32.toUInt32 31)).toInt32)) + ((((((((v0 - (((v0.toUInt32 >>> ((1 : Int32).toUInt32 &&& Int32.toUInt32 31)).toInt32) &&& (1431655765 : Int32))) &&& (858993459 : Int32)) + ((((v0 - (((v0.toUInt32 >>> ((1 : Int32).toUInt32 &&& Int32.toUInt32 31)).toInt32) &&& (1431655765 : Int32))).toUInt32 >>> ((2 : Int32).toUInt32 &&& Int32.toUInt32 31)).toInt32) &&& (858993459 : Int32))) + (((((v0 - (((v0.toUInt32 >>> ((1 : Int32).toUInt32 &&& Int32.toUInt32 31)).toInt32) &&& (1431655765 : Int32))) &&& (858993459 : Int32)) + ((((v0 - (((v0.toUInt32 >>> ((1 : Int32).toUInt32 &&& Int32.toUInt32 31)).toInt32) &&& (1431655765 : Int32))).toUInt32 >>> ((2 : Int32).toUInt32 &&& Int32.toUInt32 31)).toInt32) &&& (858993459 : Int32))).toUInt32 >>> ((4 : Int32).toUInt32 &&& Int32.toUInt32 31)).toInt32)) &&& (252645135 : Int32)) + (((((((v0 - (((v0.toUInt32 >>> ((1 : Int32).toUInt32 &&& Int32.toUInt32 31)).toInt32) &&& (1431655765 : Int32))) &&& (858993459 : Int32)) + ((((v0 - (((v0.toUInt32 >>> ((1 : Int32).toUInt32 &&& Int32.toUInt32 31)).toInt32) &&& (1431655765 : Int32))).toUInt32 >>> ((2 : Int32).toUInt32 &&& Int32.toUInt32 31)).toInt32) &&& (858993459 : Int32))) + (((((v0 - (((v0.toUInt32 >>> ((1 : Int32).toUInt32 &&& Int32.toUInt32 31)).toInt32) &&& (1431655765 : Int32))) &&& (858993459 : Int32)) + ((((v0 - (((v0.toUInt32 >>> ((1 : Int32).toUInt32 &&& Int32.toUInt32 31)).toInt32) &&& (1431655765 : Int32))).toUInt32 >>> ((2 : Int32).toUInt32 &&& Int32.toUInt32 31)).toInt32) &&& (858993459 : Int32))).toUInt32 >>> ((4 : Int32).toUInt32 &&& Int32.toUInt32 31)).toInt32)) &&& (252645135 : Int32)).toUInt32 >>> ((8 : Int32).toUInt32 &&& Int32.toUInt32 31)).toInt32)).toUInt32 >>> ((16 : Int32).toUInt32 &&& Int32.toUInt32 31)).toInt32)) &&& (63 : Int32)))), h) :=
  (x2_0 ..).trans ((x2_1 ..).trans ((x2_2 ..).trans ((x2_3 ..).trans ((x2_4 ..).trans ((x2_7 ..).trans ((x2_8 ..).trans ((x2_9 ..).trans ((x2_10 ..).trans ((x2_11 ..).trans ((x2_14 ..).trans ((x2_15 ..).trans ((x2_16 ..).trans ((x2_17 ..).trans ((x2_18 ..).trans ((x2_21 ..).trans ((x2_22 ..).trans ((x2_23 ..).trans ((x2_24 ..).trans ((x2_25 ..).trans ((x2_26 ..).trans ((x2_27 ..).trans ((x2_28 ..).trans ((x2_29 ..).trans ((x2_32 ..).trans ((x2_33 ..).trans ((x2_34 ..).trans ((x2_35 ..).trans ((x2_36 ..).trans ((x2_38 ..).trans ((x2_39 ..).trans ((x2_40 ..).trans ((x2_41 ..).trans ((x2_42 ..).trans ((x2_43 ..).trans ((x2_45 ..).trans ((x2_46 ..).trans ((x2_47 ..).trans ((x2_48 ..).trans ((x2_49 ..).trans ((x2_51 ..).trans ((x2_52 ..))))))))))))))))))))))))))))))))))))))))))
theorem r2 (d : Nat) (h : gd_H) (v0 : Int32) : run gd_P0 (d + 1) 2 [.int v0] h = go gd_P0 d 2 0 [.int v0] [] h := run_succ gd_P0 d 2 [.int v0] h (Nat.le_of_ble_eq_true rfl)
theorem x3_0 (d : Nat) (L st : List Value) (h : gd_H) : go gd_P0 d 3 0 L st h = gs gd_P0 d 3 0 L (i_ild 0 1 L st h) := go_eq gd_P0 d 3 0 L st h
theorem x3_1 (d : Nat) (L st : List Value) (h : gd_H) : go gd_P0 d 3 1 L st h = gs gd_P0 d 3 1 L (i_psh (.int (-1)) 2 L st h) := go_eq gd_P0 d 3 1 L st h
theorem x3_2 (d : Nat) (L st : List Value) (h : gd_H) : go gd_P0 d 3 2 L st h = gs gd_P0 d 3 2 L (i_ixor 3 L st h) := go_eq gd_P0 d 3 2 L st h
theorem x3_3 (d : Nat) (L st : List Value) (h : gd_H) : go gd_P0 d 3 3 L st h = gs gd_P0 d 3 3 L (i_ild 0 4 L st h) := go_eq gd_P0 d 3 3 L st h
theorem x3_4 (d : Nat) (L st : List Value) (h : gd_H) : go gd_P0 d 3 4 L st h = gs gd_P0 d 3 4 L (i_psh (.int 1) 5 L st h) := go_eq gd_P0 d 3 4 L st h
theorem x3_5 (d : Nat) (L st : List Value) (h : gd_H) : go gd_P0 d 3 5 L st h = gs gd_P0 d 3 5 L (i_isub 6 L st h) := go_eq gd_P0 d 3 5 L st h
theorem x3_6 (d : Nat) (L st : List Value) (h : gd_H) : go gd_P0 d 3 6 L st h = gs gd_P0 d 3 6 L (i_iand 7 L st h) := go_eq gd_P0 d 3 6 L st h
theorem x3_7 (d : Nat) (L st : List Value) (h : gd_H) : go gd_P0 d 3 7 L st h = gs gd_P0 d 3 7 L (i_ist 0 8 L st h) := go_eq gd_P0 d 3 7 L st h
theorem x3_8 (d : Nat) (L st : List Value) (h : gd_H) : go gd_P0 d 3 8 L st h = gs gd_P0 d 3 8 L (i_ild 0 9 L st h) := go_eq gd_P0 d 3 8 L st h
theorem x3_9 (d : Nat) (L st : List Value) (h : gd_H) : go gd_P0 d 3 9 L st h = gs gd_P0 d 3 9 L (i_ifgt 17 12 L st h) := go_eq gd_P0 d 3 9 L st h
theorem x3_12 (d : Nat) (L st : List Value) (h : gd_H) : go gd_P0 d 3 12 L st h = gs gd_P0 d 3 12 L (i_ild 0 13 L st h) := go_eq gd_P0 d 3 12 L st h
theorem x3_13 (d : Nat) (L st : List Value) (h : gd_H) : go gd_P0 d 3 13 L st h = gs gd_P0 d 3 13 L (i_psh (.int 32) 15 L st h) := go_eq gd_P0 d 3 13 L st h
theorem x3_15 (d : Nat) (L st : List Value) (h : gd_H) : go gd_P0 d 3 15 L st h = gs gd_P0 d 3 15 L (i_iand 16 L st h) := go_eq gd_P0 d 3 15 L st h
theorem x3_16 (d : Nat) (L st : List Value) (h : gd_H) : go gd_P0 d 3 16 L st h = gs gd_P0 d 3 16 L (i_iret L st h) := go_eq gd_P0 d 3 16 L st h
theorem x3_17 (d : Nat) (L st : List Value) (h : gd_H) : go gd_P0 d 3 17 L st h = gs gd_P0 d 3 17 L (i_psh (.int 1) 18 L st h) := go_eq gd_P0 d 3 17 L st h
theorem x3_18 (d : Nat) (L st : List Value) (h : gd_H) : go gd_P0 d 3 18 L st h = gs gd_P0 d 3 18 L (i_ist 1 19 L st h) := go_eq gd_P0 d 3 18 L st h
theorem x3_19 (d : Nat) (L st : List Value) (h : gd_H) : go gd_P0 d 3 19 L st h = gs gd_P0 d 3 19 L (i_ild 0 20 L st h) := go_eq gd_P0 d 3 19 L st h
theorem x3_20 (d : Nat) (L st : List Value) (h : gd_H) : go gd_P0 d 3 20 L st h = gs gd_P0 d 3 20 L (i_psh (.int 65536) 23 L st h) := go_eq gd_P0 d 3 20 L st h
theorem x3_23 (d : Nat) (L st : List Value) (h : gd_H) : go gd_P0 d 3 23 L st h = gs gd_P0 d 3 23 L (i_icle 34 26 L st h) := go_eq gd_P0 d 3 23 L st h
theorem x3_26 (d : Nat) (L st : List Value) (h : gd_H) : go gd_P0 d 3 26 L st h = gs gd_P0 d 3 26 L (i_inc 1 16 29 L st h) := go_eq gd_P0 d 3 26 L st h
theorem x3_29 (d : Nat) (L st : List Value) (h : gd_H) : go gd_P0 d 3 29 L st h = gs gd_P0 d 3 29 L (i_ild 0 30 L st h) := go_eq gd_P0 d 3 29 L st h
theorem x3_30 (d : Nat) (L st : List Value) (h : gd_H) : go gd_P0 d 3 30 L st h = gs gd_P0 d 3 30 L (i_psh (.int 16) 32 L st h) := go_eq gd_P0 d 3 30 L st h
theorem x3_32 (d : Nat) (L st : List Value) (h : gd_H) : go gd_P0 d 3 32 L st h = gs gd_P0 d 3 32 L (i_iushr 33 L st h) := go_eq gd_P0 d 3 32 L st h
theorem x3_33 (d : Nat) (L st : List Value) (h : gd_H) : go gd_P0 d 3 33 L st h = gs gd_P0 d 3 33 L (i_ist 0 34 L st h) := go_eq gd_P0 d 3 33 L st h
theorem x3_34 (d : Nat) (L st : List Value) (h : gd_H) : go gd_P0 d 3 34 L st h = gs gd_P0 d 3 34 L (i_msk [true, true] (i_ild 0 35) L st h) := go_eq gd_P0 d 3 34 L st h
theorem x3_35 (d : Nat) (L st : List Value) (h : gd_H) : go gd_P0 d 3 35 L st h = gs gd_P0 d 3 35 L (i_psh (.int 256) 38 L st h) := go_eq gd_P0 d 3 35 L st h
theorem x3_38 (d : Nat) (L st : List Value) (h : gd_H) : go gd_P0 d 3 38 L st h = gs gd_P0 d 3 38 L (i_icle 49 41 L st h) := go_eq gd_P0 d 3 38 L st h
theorem x3_41 (d : Nat) (L st : List Value) (h : gd_H) : go gd_P0 d 3 41 L st h = gs gd_P0 d 3 41 L (i_inc 1 8 44 L st h) := go_eq gd_P0 d 3 41 L st h
theorem x3_44 (d : Nat) (L st : List Value) (h : gd_H) : go gd_P0 d 3 44 L st h = gs gd_P0 d 3 44 L (i_ild 0 45 L st h) := go_eq gd_P0 d 3 44 L st h
theorem x3_45 (d : Nat) (L st : List Value) (h : gd_H) : go gd_P0 d 3 45 L st h = gs gd_P0 d 3 45 L (i_psh (.int 8) 47 L st h) := go_eq gd_P0 d 3 45 L st h
theorem x3_47 (d : Nat) (L st : List Value) (h : gd_H) : go gd_P0 d 3 47 L st h = gs gd_P0 d 3 47 L (i_iushr 48 L st h) := go_eq gd_P0 d 3 47 L st h
theorem x3_48 (d : Nat) (L st : List Value) (h : gd_H) : go gd_P0 d 3 48 L st h = gs gd_P0 d 3 48 L (i_ist 0 49 L st h) := go_eq gd_P0 d 3 48 L st h
theorem x3_49 (d : Nat) (L st : List Value) (h : gd_H) : go gd_P0 d 3 49 L st h = gs gd_P0 d 3 49 L (i_msk [true, true] (i_ild 0 50) L st h) := go_eq gd_P0 d 3 49 L st h
theorem x3_50 (d : Nat) (L st : List Value) (h : gd_H) : go gd_P0 d 3 50 L st h = gs gd_P0 d 3 50 L (i_psh (.int 16) 52 L st h) := go_eq gd_P0 d 3 50 L st h
theorem x3_52 (d : Nat) (L st : List Value) (h : gd_H) : go gd_P0 d 3 52 L st h = gs gd_P0 d 3 52 L (i_icle 62 55 L st h) := go_eq gd_P0 d 3 52 L st h
theorem x3_55 (d : Nat) (L st : List Value) (h : gd_H) : go gd_P0 d 3 55 L st h = gs gd_P0 d 3 55 L (i_inc 1 4 58 L st h) := go_eq gd_P0 d 3 55 L st h
theorem x3_58 (d : Nat) (L st : List Value) (h : gd_H) : go gd_P0 d 3 58 L st h = gs gd_P0 d 3 58 L (i_ild 0 59 L st h) := go_eq gd_P0 d 3 58 L st h
theorem x3_59 (d : Nat) (L st : List Value) (h : gd_H) : go gd_P0 d 3 59 L st h = gs gd_P0 d 3 59 L (i_psh (.int 4) 60 L st h) := go_eq gd_P0 d 3 59 L st h
theorem x3_60 (d : Nat) (L st : List Value) (h : gd_H) : go gd_P0 d 3 60 L st h = gs gd_P0 d 3 60 L (i_iushr 61 L st h) := go_eq gd_P0 d 3 60 L st h
theorem x3_61 (d : Nat) (L st : List Value) (h : gd_H) : go gd_P0 d 3 61 L st h = gs gd_P0 d 3 61 L (i_ist 0 62 L st h) := go_eq gd_P0 d 3 61 L st h
theorem x3_62 (d : Nat) (L st : List Value) (h : gd_H) : go gd_P0 d 3 62 L st h = gs gd_P0 d 3 62 L (i_msk [true, true] (i_ild 0 63) L st h) := go_eq gd_P0 d 3 62 L st h
theorem x3_63 (d : Nat) (L st : List Value) (h : gd_H) : go gd_P0 d 3 63 L st h = gs gd_P0 d 3 63 L (i_psh (.int 4) 64 L st h) := go_eq gd_P0 d 3 63 L st h
theorem x3_64 (d : Nat) (L st : List Value) (h : gd_H) : go gd_P0 d 3 64 L st h = gs gd_P0 d 3 64 L (i_icle 74 67 L st h) := go_eq gd_P0 d 3 64 L st h
theorem x3_67 (d : Nat) (L st : List Value) (h : gd_H) : go gd_P0 d 3 67 L st h = gs gd_P0 d 3 67 L (i_inc 1 2 70 L st h) := go_eq gd_P0 d 3 67 L st h
theorem x3_70 (d : Nat) (L st : List Value) (h : gd_H) : go gd_P0 d 3 70 L st h = gs gd_P0 d 3 70 L (i_ild 0 71 L st h) := go_eq gd_P0 d 3 70 L st h
theorem x3_71 (d : Nat) (L st : List Value) (h : gd_H) : go gd_P0 d 3 71 L st h = gs gd_P0 d 3 71 L (i_psh (.int 2) 72 L st h) := go_eq gd_P0 d 3 71 L st h
theorem x3_72 (d : Nat) (L st : List Value) (h : gd_H) : go gd_P0 d 3 72 L st h = gs gd_P0 d 3 72 L (i_iushr 73 L st h) := go_eq gd_P0 d 3 72 L st h
theorem x3_73 (d : Nat) (L st : List Value) (h : gd_H) : go gd_P0 d 3 73 L st h = gs gd_P0 d 3 73 L (i_ist 0 74 L st h) := go_eq gd_P0 d 3 73 L st h
theorem x3_74 (d : Nat) (L st : List Value) (h : gd_H) : go gd_P0 d 3 74 L st h = gs gd_P0 d 3 74 L (i_msk [true, true] (i_ild 1 75) L st h) := go_eq gd_P0 d 3 74 L st h
theorem x3_75 (d : Nat) (L st : List Value) (h : gd_H) : go gd_P0 d 3 75 L st h = gs gd_P0 d 3 75 L (i_ild 0 76 L st h) := go_eq gd_P0 d 3 75 L st h
theorem x3_76 (d : Nat) (L st : List Value) (h : gd_H) : go gd_P0 d 3 76 L st h = gs gd_P0 d 3 76 L (i_psh (.int 1) 77 L st h) := go_eq gd_P0 d 3 76 L st h
theorem x3_77 (d : Nat) (L st : List Value) (h : gd_H) : go gd_P0 d 3 77 L st h = gs gd_P0 d 3 77 L (i_iushr 78 L st h) := go_eq gd_P0 d 3 77 L st h
theorem x3_78 (d : Nat) (L st : List Value) (h : gd_H) : go gd_P0 d 3 78 L st h = gs gd_P0 d 3 78 L (i_iadd 79 L st h) := go_eq gd_P0 d 3 78 L st h
theorem x3_79 (d : Nat) (L st : List Value) (h : gd_H) : go gd_P0 d 3 79 L st h = gs gd_P0 d 3 79 L (i_iret L st h) := go_eq gd_P0 d 3 79 L st h
theorem s3_0 (d : Nat) (h : gd_H) (v0 : Int32) : go gd_P0 d 3 0 [.int v0, .null] [] h =
    if 0 < ((v0 ^^^ ((-1) : Int32)) &&& (v0 - 1)) then if ((v0 ^^^ ((-1) : Int32)) &&& (v0 - 1)) ≤ 65536 then go gd_P0 d 3 34 [.int ((v0 ^^^ ((-1) : Int32)) &&& (v0 - 1)), .int 1] [] h else go gd_P0 d 3 34 [.int ((((v0 ^^^ ((-1) : Int32)) &&& (v0 - 1)).toUInt32 >>> ((16 : Int32).toUInt32 &&& Int32.toUInt32 31)).toInt32), .int (1 + 16)] [] h else some (.inl (some (.int (((v0 ^^^ ((-1) : Int32)) &&& (v0 - 1)) &&& (32 : Int32)))), h) :=
  (x3_0 ..).trans ((x3_1 ..).trans ((x3_2 ..).trans ((x3_3 ..).trans ((x3_4 ..).trans ((x3_5 ..).trans ((x3_6 ..).trans ((x3_7 ..).trans ((x3_8 ..).trans ((x3_9 ..).trans ((gs_if ..).trans (ic9 ((x3_17 ..).trans ((x3_18 ..).trans ((x3_19 ..).trans ((x3_20 ..).trans ((x3_23 ..).trans ((gs_if ..).trans (ic9 (rfl) ((x3_26 ..).trans ((x3_29 ..).trans ((x3_30 ..).trans ((x3_32 ..).trans ((x3_33 ..))))))))))))) ((x3_12 ..).trans ((x3_13 ..).trans ((x3_15 ..).trans ((x3_16 ..))))))))))))))))
theorem s3_34 (d : Nat) (h : gd_H) (v0 : Int32) (v1 : Int32) : go gd_P0 d 3 34 [.int v0, .int v1] [] h =
    if v0 ≤ 256 then go gd_P0 d 3 49 [.int v0, .int v1] [] h else go gd_P0 d 3 49 [.int ((v0.toUInt32 >>> ((8 : Int32).toUInt32 &&& Int32.toUInt32 31)).toInt32), .int (v1 + 8)] [] h :=
  (x3_34 ..).trans ((x3_35 ..).trans ((x3_38 ..).trans ((gs_if ..).trans (ic9 (rfl) ((x3_41 ..).trans ((x3_44 ..).trans ((x3_45 ..).trans ((x3_47 ..).trans ((x3_48 ..))))))))))
theorem s3_49 (d : Nat) (h : gd_H) (v0 : Int32) (v1 : Int32) : go gd_P0 d 3 49 [.int v0, .int v1] [] h =
    if v0 ≤ 16 then go gd_P0 d 3 62 [.int v0, .int v1] [] h else go gd_P0 d 3 62 [.int ((v0.toUInt32 >>> ((4 : Int32).toUInt32 &&& Int32.toUInt32 31)).toInt32), .int (v1 + 4)] [] h :=
  (x3_49 ..).trans ((x3_50 ..).trans ((x3_52 ..).trans ((gs_if ..).trans (ic9 (rfl) ((x3_55 ..).trans ((x3_58 ..).trans ((x3_59 ..).trans ((x3_60 ..).trans ((x3_61 ..))))))))))
theorem s3_62 (d : Nat) (h : gd_H) (v0 : Int32) (v1 : Int32) : go gd_P0 d 3 62 [.int v0, .int v1] [] h =
    if v0 ≤ 4 then go gd_P0 d 3 74 [.int v0, .int v1] [] h else go gd_P0 d 3 74 [.int ((v0.toUInt32 >>> ((2 : Int32).toUInt32 &&& Int32.toUInt32 31)).toInt32), .int (v1 + 2)] [] h :=
  (x3_62 ..).trans ((x3_63 ..).trans ((x3_64 ..).trans ((gs_if ..).trans (ic9 (rfl) ((x3_67 ..).trans ((x3_70 ..).trans ((x3_71 ..).trans ((x3_72 ..).trans ((x3_73 ..))))))))))
theorem s3_74 (d : Nat) (h : gd_H) (v0 : Int32) (v1 : Int32) : go gd_P0 d 3 74 [.int v0, .int v1] [] h =
    some (.inl (some (.int (v1 + ((v0.toUInt32 >>> ((1 : Int32).toUInt32 &&& Int32.toUInt32 31)).toInt32)))), h) :=
  (x3_74 ..).trans ((x3_75 ..).trans ((x3_76 ..).trans ((x3_77 ..).trans ((x3_78 ..).trans ((x3_79 ..))))))
theorem r3 (d : Nat) (h : gd_H) (v0 : Int32) : run gd_P0 (d + 1) 3 [.int v0] h = go gd_P0 d 3 0 [.int v0, .null] [] h := run_succ gd_P0 d 3 [.int v0] h (Nat.le_of_ble_eq_true rfl)
theorem x4_0 (d : Nat) (L st : List Value) (h : gd_H) : go gd_P0 d 4 0 L st h = gs gd_P0 d 4 0 L (i_ild 0 1 L st h) := go_eq gd_P0 d 4 0 L st h
theorem x4_1 (d : Nat) (L st : List Value) (h : gd_H) : go gd_P0 d 4 1 L st h = gs gd_P0 d 4 1 L (i_psh (.int 31) 3 L st h) := go_eq gd_P0 d 4 1 L st h
theorem x4_3 (d : Nat) (L st : List Value) (h : gd_H) : go gd_P0 d 4 3 L st h = gs gd_P0 d 4 3 L (i_ishr 4 L st h) := go_eq gd_P0 d 4 3 L st h
theorem x4_4 (d : Nat) (L st : List Value) (h : gd_H) : go gd_P0 d 4 4 L st h = gs gd_P0 d 4 4 L (i_ild 0 5 L st h) := go_eq gd_P0 d 4 4 L st h
theorem x4_5 (d : Nat) (L st : List Value) (h : gd_H) : go gd_P0 d 4 5 L st h = gs gd_P0 d 4 5 L (i_ineg 6 L st h) := go_eq gd_P0 d 4 5 L st h
theorem x4_6 (d : Nat) (L st : List Value) (h : gd_H) : go gd_P0 d 4 6 L st h = gs gd_P0 d 4 6 L (i_psh (.int 31) 8 L st h) := go_eq gd_P0 d 4 6 L st h
theorem x4_8 (d : Nat) (L st : List Value) (h : gd_H) : go gd_P0 d 4 8 L st h = gs gd_P0 d 4 8 L (i_iushr 9 L st h) := go_eq gd_P0 d 4 8 L st h
theorem x4_9 (d : Nat) (L st : List Value) (h : gd_H) : go gd_P0 d 4 9 L st h = gs gd_P0 d 4 9 L (i_ior 10 L st h) := go_eq gd_P0 d 4 9 L st h
theorem x4_10 (d : Nat) (L st : List Value) (h : gd_H) : go gd_P0 d 4 10 L st h = gs gd_P0 d 4 10 L (i_iret L st h) := go_eq gd_P0 d 4 10 L st h
theorem s4_0 (d : Nat) (h : gd_H) (v0 : Int32) : go gd_P0 d 4 0 [.int v0] [] h =
    some (.inl (some (.int ((v0 >>> ((31 : Int32) &&& 31)) ||| (((-v0).toUInt32 >>> ((31 : Int32).toUInt32 &&& Int32.toUInt32 31)).toInt32)))), h) :=
  (x4_0 ..).trans ((x4_1 ..).trans ((x4_3 ..).trans ((x4_4 ..).trans ((x4_5 ..).trans ((x4_6 ..).trans ((x4_8 ..).trans ((x4_9 ..).trans ((x4_10 ..)))))))))
theorem r4 (d : Nat) (h : gd_H) (v0 : Int32) : run gd_P0 (d + 1) 4 [.int v0] h = go gd_P0 d 4 0 [.int v0] [] h := run_succ gd_P0 d 4 [.int v0] h (Nat.le_of_ble_eq_true rfl)
theorem x5_0 (d : Nat) (L st : List Value) (h : gd_H) : go gd_P0 d 5 0 L st h = gs gd_P0 d 5 0 L (i_ald 0 1 L st h) := go_eq gd_P0 d 5 0 L st h
theorem x5_1 (d : Nat) (L st : List Value) (h : gd_H) : go gd_P0 d 5 1 L st h = gs gd_P0 d 5 1 L (i_getS0 4 L st h) := go_eq gd_P0 d 5 1 L st h
theorem x5_4 (d : Nat) (L st : List Value) (h : gd_H) : go gd_P0 d 5 4 L st h = gs gd_P0 d 5 4 L (i_alenF 42 5 L st h) := go_eq gd_P0 d 5 4 L st h
theorem x5_5 (d : Nat) (L st : List Value) (h : gd_H) : go gd_P0 d 5 5 L st h = gs gd_P0 d 5 5 L (i_ald 0 6 L st h) := go_eq gd_P0 d 5 5 L st h
theorem x5_6 (d : Nat) (L st : List Value) (h : gd_H) : go gd_P0 d 5 6 L st h = gs gd_P0 d 5 6 L (i_cVs 6 0 9 L st h) := go_eq gd_P0 d 5 6 L st h
theorem x5_9 (d : Nat) (L st : List Value) (h : gd_H) : go gd_P0 d 5 9 L st h = gs gd_P0 d 5 9 L (i_msk [false] (i_ishr 10) L st h) := go_eq gd_P0 d 5 9 L st h
theorem x5_10 (d : Nat) (L st : List Value) (h : gd_H) : go gd_P0 d 5 10 L st h = gs gd_P0 d 5 10 L (i_iret L st h) := go_eq gd_P0 d 5 10 L st h
theorem s5_0 (d : Nat) (h : gd_H) (v0 : Nat) : go gd_P0 d 5 0 [.ref v0] [] h =
    if gT h v0 = 23 ∧ v0 < 96 then if gT h (v0 + 1) = 42 ∧ (v0 + 1) < 96 then if gT h v0 = 23 ∧ v0 < 96 then gc gd_P0 d 5 6 9 [.ref v0] [.int (Int32.ofNat (gL h (v0 + 1)))] (run gd_P0 d 6 [.ref v0] h) else none else none else none :=
  (x5_0 ..).trans ((x5_1 ..).trans ((gs_if ..).trans (ic9 ((x5_4 ..).trans ((gs_if ..).trans (ic9 ((x5_5 ..).trans ((x5_6 ..).trans ((gs_if ..).trans ((ia9 (by simp)).trans (ic9 rfl rfl))))) rfl))) rfl)))
theorem s5_9 (d : Nat) (h : gd_H) (w0 : Value) (z0 : Int32) (z1 : Int32) : go gd_P0 d 5 9 [w0] [.int z0, .int z1] h =
    some (.inl (some (.int (z1 >>> (z0 &&& 31)))), h) :=
  (x5_9 ..).trans ((x5_10 ..))
theorem r5 (d : Nat) (h : gd_H) (v0 : Nat) : run gd_P0 (d + 1) 5 [.ref v0] h = go gd_P0 d 5 0 [.ref v0] [] h := run_succ gd_P0 d 5 [.ref v0] h (Nat.le_of_ble_eq_true rfl)
theorem x6_0 (d : Nat) (L st : List Value) (h : gd_H) : go gd_P0 d 6 0 L st h = gs gd_P0 d 6 0 L (i_psh (.int 1) 3 L st h) := go_eq gd_P0 d 6 0 L st h
theorem x6_3 (d : Nat) (L st : List Value) (h : gd_H) : go gd_P0 d 6 3 L st h = gs gd_P0 d 6 3 L (i_ifeq 13 6 L st h) := go_eq gd_P0 d 6 3 L st h
theorem x6_6 (d : Nat) (L st : List Value) (h : gd_H) : go gd_P0 d 6 6 L st h = gs gd_P0 d 6 6 L (i_ald 0 7 L st h) := go_eq gd_P0 d 6 6 L st h
theorem x6_7 (d : Nat) (L st : List Value) (h : gd_H) : go gd_P0 d 6 7 L st h = gs gd_P0 d 6 7 L (i_getS1 10 L st h) := go_eq gd_P0 d 6 7 L st h
theorem x6_10 (d : Nat) (L st : List Value) (h : gd_H) : go gd_P0 d 6 10 L st h = gs gd_P0 d 6 10 L (i_goto 14 L st h) := go_eq gd_P0 d 6 10 L st h
theorem x6_14 (d : Nat) (L st : List Value) (h : gd_H) : go gd_P0 d 6 14 L st h = gs gd_P0 d 6 14 L (i_msk [false] (i_bret) L st h) := go_eq gd_P0 d 6 14 L st h
theorem s6_0 (d : Nat) (h : gd_H) (v0 : Nat) : go gd_P0 d 6 0 [.ref v0] [] h =
    if gT h v0 = 23 ∧ v0 < 96 then go gd_P0 d 6 14 [.ref v0] [.int 0] h else none :=
  (x6_0 ..).trans ((x6_3 ..).trans ((x6_6 ..).trans ((x6_7 ..).trans ((gs_if ..).trans (ic9 ((x6_10 ..)) rfl)))))
theorem s6_14 (d : Nat) (h : gd_H) (w0 : Value) (z0 : Int32) : go gd_P0 d 6 14 [w0] [.int z0] h =
    if Int8.toInt32 (Int32.toInt8 z0) = z0 then some (.inl (some (.int z0)), h) else none :=
  (x6_14 ..).trans ((gs_nif ..).trans (ic9 rfl rfl))
theorem r6 (d : Nat) (h : gd_H) (v0 : Nat) : run gd_P0 (d + 1) 6 [.ref v0] h = go gd_P0 d 6 0 [.ref v0] [] h := run_succ gd_P0 d 6 [.ref v0] h (Nat.le_of_ble_eq_true rfl)
theorem x7_0 (d : Nat) (L st : List Value) (h : gd_H) : go gd_P0 d 7 0 L st h = gs gd_P0 d 7 0 L (i_ald 0 1 L st h) := go_eq gd_P0 d 7 0 L st h
theorem x7_1 (d : Nat) (L st : List Value) (h : gd_H) : go gd_P0 d 7 1 L st h = gs gd_P0 d 7 1 L (i_cVs 8 0 4 L st h) := go_eq gd_P0 d 7 1 L st h
theorem x7_4 (d : Nat) (L st : List Value) (h : gd_H) : go gd_P0 d 7 4 L st h = gs gd_P0 d 7 4 L (i_msk [true, true] (i_ifeq 16 7) L st h) := go_eq gd_P0 d 7 4 L st h
theorem x7_7 (d : Nat) (L st : List Value) (h : gd_H) : go gd_P0 d 7 7 L st h = gs gd_P0 d 7 7 L (i_ald 0 8 L st h) := go_eq gd_P0 d 7 7 L st h
theorem x7_8 (d : Nat) (L st : List Value) (h : gd_H) : go gd_P0 d 7 8 L st h = gs gd_P0 d 7 8 L (i_getS0 11 L st h) := go_eq gd_P0 d 7 8 L st h
theorem x7_11 (d : Nat) (L st : List Value) (h : gd_H) : go gd_P0 d 7 11 L st h = gs gd_P0 d 7 11 L (i_ild 1 12 L st h) := go_eq gd_P0 d 7 11 L st h
theorem x7_12 (d : Nat) (L st : List Value) (h : gd_H) : go gd_P0 d 7 12 L st h = gs gd_P0 d 7 12 L (i_cS 10 2 15 L st h) := go_eq gd_P0 d 7 12 L st h
theorem x7_15 (d : Nat) (L st : List Value) (h : gd_H) : go gd_P0 d 7 15 L st h = gs gd_P0 d 7 15 L (i_msk [false, false] (i_cret) L st h) := go_eq gd_P0 d 7 15 L st h
theorem x7_16 (d : Nat) (L st : List Value) (h : gd_H) : go gd_P0 d 7 16 L st h = gs gd_P0 d 7 16 L (i_ald 0 17 L st h) := go_eq gd_P0 d 7 16 L st h
theorem x7_17 (d : Nat) (L st : List Value) (h : gd_H) : go gd_P0 d 7 17 L st h = gs gd_P0 d 7 17 L (i_getS0 20 L st h) := go_eq gd_P0 d 7 17 L st h
theorem x7_20 (d : Nat) (L st : List Value) (h : gd_H) : go gd_P0 d 7 20 L st h = gs gd_P0 d 7 20 L (i_ild 1 21 L st h) := go_eq gd_P0 d 7 20 L st h
theorem x7_21 (d : Nat) (L st : List Value) (h : gd_H) : go gd_P0 d 7 21 L st h = gs gd_P0 d 7 21 L (i_stk L st h) := go_eq gd_P0 d 7 21 L st h
theorem x7_24 (d : Nat) (L st : List Value) (h : gd_H) : go gd_P0 d 7 24 L st h = gs gd_P0 d 7 24 L (i_msk [false, false] (i_cret) L st h) := go_eq gd_P0 d 7 24 L st h
theorem s7_0 (d : Nat) (h : gd_H) (v0 : Nat) (v1 : Int32) : go gd_P0 d 7 0 [.ref v0, .int v1] [] h =
    if gT h v0 = 23 ∧ v0 < 96 then gc gd_P0 d 7 1 4 [.ref v0, .int v1] [] (run gd_P0 d 8 [.ref v0] h) else none :=
  (x7_0 ..).trans ((x7_1 ..).trans ((gs_if ..).trans ((ia9 (by simp)).trans (ic9 rfl rfl))))
theorem s7_4 (d : Nat) (h : gd_H) (v0 : Nat) (v1 : Int32) (z0 : Int32) : go gd_P0 d 7 4 [.ref v0, .int v1] [.int z0] h =
    if z0 = 0 then if gT h v0 = 23 ∧ v0 < 96 then none else none else if gT h v0 = 23 ∧ v0 < 96 then gc gd_P0 d 7 12 15 [.ref v0, .int v1] [] (run gd_P0 d 10 [.ref (v0 + 1), .int v1] h) else none :=
  (x7_4 ..).trans ((gs_nif ..).trans (ic9 ((x7_16 ..).trans ((x7_17 ..).trans ((gs_if ..).trans (ic9 ((x7_20 ..).trans ((x7_21 ..))) rfl)))) ((x7_7 ..).trans ((x7_8 ..).trans ((gs_if ..).trans (ic9 ((x7_11 ..).trans ((x7_12 ..))) rfl))))))
theorem s7_15 (d : Nat) (h : gd_H) (w0 : Value) (w1 : Value) (z0 : Int32) : go gd_P0 d 7 15 [w0, w1] [.int z0] h =
    if UInt32.toInt32 (UInt16.toUInt32 (UInt32.toUInt16 (Int32.toUInt32 z0))) = z0 then some (.inl (some (.int z0)), h) else none :=
  (x7_15 ..).trans ((gs_nif ..).trans (ic9 rfl rfl))
theorem s7_24 (d : Nat) (h : gd_H) (w0 : Value) (w1 : Value) (z0 : Int32) : go gd_P0 d 7 24 [w0, w1] [.int z0] h =
    if UInt32.toInt32 (UInt16.toUInt32 (UInt32.toUInt16 (Int32.toUInt32 z0))) = z0 then some (.inl (some (.int z0)), h) else none :=
  (x7_24 ..).trans ((gs_nif ..).trans (ic9 rfl rfl))
theorem r7 (d : Nat) (h : gd_H) (v0 : Nat) (v1 : Int32) : run gd_P0 (d + 1) 7 [.ref v0, .int v1] h = go gd_P0 d 7 0 [.ref v0, .int v1] [] h := run_succ gd_P0 d 7 [.ref v0, .int v1] h (Nat.le_of_ble_eq_true rfl)
theorem x8_0 (d : Nat) (L st : List Value) (h : gd_H) : go gd_P0 d 8 0 L st h = gs gd_P0 d 8 0 L (i_psh (.int 1) 3 L st h) := go_eq gd_P0 d 8 0 L st h
theorem x8_3 (d : Nat) (L st : List Value) (h : gd_H) : go gd_P0 d 8 3 L st h = gs gd_P0 d 8 3 L (i_ifeq 17 6 L st h) := go_eq gd_P0 d 8 3 L st h
theorem x8_6 (d : Nat) (L st : List Value) (h : gd_H) : go gd_P0 d 8 6 L st h = gs gd_P0 d 8 6 L (i_ald 0 7 L st h) := go_eq gd_P0 d 8 6 L st h
theorem x8_7 (d : Nat) (L st : List Value) (h : gd_H) : go gd_P0 d 8 7 L st h = gs gd_P0 d 8 7 L (i_getS1 10 L st h) := go_eq gd_P0 d 8 7 L st h
theorem x8_10 (d : Nat) (L st : List Value) (h : gd_H) : go gd_P0 d 8 10 L st h = gs gd_P0 d 8 10 L (i_ifne 17 13 L st h) := go_eq gd_P0 d 8 10 L st h
theorem x8_13 (d : Nat) (L st : List Value) (h : gd_H) : go gd_P0 d 8 13 L st h = gs gd_P0 d 8 13 L (i_psh (.int 1) 14 L st h) := go_eq gd_P0 d 8 13 L st h
theorem x8_14 (d : Nat) (L st : List Value) (h : gd_H) : go gd_P0 d 8 14 L st h = gs gd_P0 d 8 14 L (i_goto 18 L st h) := go_eq gd_P0 d 8 14 L st h
theorem x8_17 (d : Nat) (L st : List Value) (h : gd_H) : go gd_P0 d 8 17 L st h = gs gd_P0 d 8 17 L (i_msk [false] (i_psh (.int 0) 18) L st h) := go_eq gd_P0 d 8 17 L st h
theorem x8_18 (d : Nat) (L st : List Value) (h : gd_H) : go gd_P0 d 8 18 L st h = gs gd_P0 d 8 18 L (i_msk [false] (i_zret) L st h) := go_eq gd_P0 d 8 18 L st h
theorem s8_0 (d : Nat) (h : gd_H) (v0 : Nat) : go gd_P0 d 8 0 [.ref v0] [] h =
    if gT h v0 = 23 ∧ v0 < 96 then go gd_P0 d 8 18 [.ref v0] [.int 1] h else none :=
  (x8_0 ..).trans ((x8_3 ..).trans ((x8_6 ..).trans ((x8_7 ..).trans ((gs_if ..).trans (ic9 ((x8_10 ..).trans ((x8_13 ..).trans ((x8_14 ..)))) rfl)))))
theorem s8_17 (d : Nat) (h : gd_H) (w0 : Value) : go gd_P0 d 8 17 [w0] [] h =
    go gd_P0 d 8 18 [.null] [.int 0] h :=
  (x8_17 ..)
theorem s8_18 (d : Nat) (h : gd_H) (w0 : Value) (z0 : Int32) : go gd_P0 d 8 18 [w0] [.int z0] h =
    if z0 = 0 ∨ z0 = 1 then some (.inl (some (.int z0)), h) else none :=
  (x8_18 ..).trans ((gs_nif ..).trans (ic9 rfl rfl))
theorem r8 (d : Nat) (h : gd_H) (v0 : Nat) : run gd_P0 (d + 1) 8 [.ref v0] h = go gd_P0 d 8 0 [.ref v0] [] h := run_succ gd_P0 d 8 [.ref v0] h (Nat.le_of_ble_eq_true rfl)
theorem x9_0 (d : Nat) (L st : List Value) (h : gd_H) : go gd_P0 d 9 0 L st h = gs gd_P0 d 9 0 L (i_ild 0 1 L st h) := go_eq gd_P0 d 9 0 L st h
theorem x9_1 (d : Nat) (L st : List Value) (h : gd_H) : go gd_P0 d 9 1 L st h = gs gd_P0 d 9 1 L (i_ild 1 2 L st h) := go_eq gd_P0 d 9 1 L st h
theorem x9_2 (d : Nat) (L st : List Value) (h : gd_H) : go gd_P0 d 9 2 L st h = gs gd_P0 d 9 2 L (i_psh (.ref 1) 5 L st h) := go_eq gd_P0 d 9 2 L st h
theorem x9_5 (d : Nat) (L st : List Value) (h : gd_H) : go gd_P0 d 9 5 L st h = gs gd_P0 d 9 5 L (i_cS 11 3 8 L st h) := go_eq gd_P0 d 9 5 L st h
theorem x9_8 (d : Nat) (L st : List Value) (h : gd_H) : go gd_P0 d 9 8 L st h = gs gd_P0 d 9 8 L (i_msk [false, false] (i_pop 9) L st h) := go_eq gd_P0 d 9 8 L st h
theorem x9_9 (d : Nat) (L st : List Value) (h : gd_H) : go gd_P0 d 9 9 L st h = gs gd_P0 d 9 9 L (i_ret L st h) := go_eq gd_P0 d 9 9 L st h
theorem s9_0 (d : Nat) (h : gd_H) (v0 : Int32) (v1 : Int32) : go gd_P0 d 9 0 [.int v0, .int v1] [] h =
    gc gd_P0 d 9 5 8 [.int v0, .int v1] [] (run gd_P0 d 11 [.int v0, .int v1, .ref 1] h) :=
  (x9_0 ..).trans ((x9_1 ..).trans ((x9_2 ..).trans ((x9_5 ..))))
theorem s9_8 (d : Nat) (h : gd_H) (w0 : Value) (w1 : Value) (z0 : Int32) : go gd_P0 d 9 8 [w0, w1] [.int z0] h =
    some (.inl none, h) :=
  (x9_8 ..).trans ((x9_9 ..))
theorem r9 (d : Nat) (h : gd_H) (v0 : Int32) (v1 : Int32) : run gd_P0 (d + 1) 9 [.int v0, .int v1] h = go gd_P0 d 9 0 [.int v0, .int v1] [] h := run_succ gd_P0 d 9 [.int v0, .int v1] h (Nat.le_of_ble_eq_true rfl)
theorem x10_0 (d : Nat) (L st : List Value) (h : gd_H) : go gd_P0 d 10 0 L st h = gs gd_P0 d 10 0 L (i_ild 1 1 L st h) := go_eq gd_P0 d 10 0 L st h
theorem x10_1 (d : Nat) (L st : List Value) (h : gd_H) : go gd_P0 d 10 1 L st h = gs gd_P0 d 10 1 L (i_ald 0 2 L st h) := go_eq gd_P0 d 10 1 L st h
theorem x10_2 (d : Nat) (L st : List Value) (h : gd_H) : go gd_P0 d 10 2 L st h = gs gd_P0 d 10 2 L (i_alenF 42 3 L st h) := go_eq gd_P0 d 10 2 L st h
theorem x10_3 (d : Nat) (L st : List Value) (h : gd_H) : go gd_P0 d 10 3 L st h = gs gd_P0 d 10 3 L (i_cS 9 2 6 L st h) := go_eq gd_P0 d 10 3 L st h
theorem x10_6 (d : Nat) (L st : List Value) (h : gd_H) : go gd_P0 d 10 6 L st h = gs gd_P0 d 10 6 L (i_msk [true, true] (i_ald 0 7) L st h) := go_eq gd_P0 d 10 6 L st h
theorem x10_7 (d : Nat) (L st : List Value) (h : gd_H) : go gd_P0 d 10 7 L st h = gs gd_P0 d 10 7 L (i_ild 1 8 L st h) := go_eq gd_P0 d 10 7 L st h
theorem x10_8 (d : Nat) (L st : List Value) (h : gd_H) : go gd_P0 d 10 8 L st h = gs gd_P0 d 10 8 L (i_aldF 42 9 L st h) := go_eq gd_P0 d 10 8 L st h
theorem x10_9 (d : Nat) (L st : List Value) (h : gd_H) : go gd_P0 d 10 9 L st h = gs gd_P0 d 10 9 L (i_psh (.int 255) 12 L st h) := go_eq gd_P0 d 10 9 L st h
theorem x10_12 (d : Nat) (L st : List Value) (h : gd_H) : go gd_P0 d 10 12 L st h = gs gd_P0 d 10 12 L (i_iand 13 L st h) := go_eq gd_P0 d 10 12 L st h
theorem x10_13 (d : Nat) (L st : List Value) (h : gd_H) : go gd_P0 d 10 13 L st h = gs gd_P0 d 10 13 L (i_i2c 14 L st h) := go_eq gd_P0 d 10 13 L st h
theorem x10_14 (d : Nat) (L st : List Value) (h : gd_H) : go gd_P0 d 10 14 L st h = gs gd_P0 d 10 14 L (i_cret L st h) := go_eq gd_P0 d 10 14 L st h
theorem s10_0 (d : Nat) (h : gd_H) (v0 : Nat) (v1 : Int32) : go gd_P0 d 10 0 [.ref v0, .int v1] [] h =
    if gT h v0 = 42 ∧ v0 < 96 then gc gd_P0 d 10 3 6 [.ref v0, .int v1] [] (run gd_P0 d 9 [.int v1, .int (Int32.ofNat (gL h v0))] h) else none :=
  (x10_0 ..).trans ((x10_1 ..).trans ((x10_2 ..).trans ((gs_if ..).trans (ic9 ((x10_3 ..)) rfl))))
theorem s10_6 (d : Nat) (h : gd_H) (v0 : Nat) (v1 : Int32) : go gd_P0 d 10 6 [.ref v0, .int v1] [] h =
    if gT h v0 = 42 ∧ (v0 < 96 ∧ ¬ (v1 < 0 ∨ gL h v0 ≤ Int32.toNatClampNeg v1)) then if UInt32.toInt32 (UInt16.toUInt32 (UInt32.toUInt16 (Int32.toUInt32 ((Int32.toUInt32 ((gI h v0 (Int32.toNatClampNeg v1)) &&& (255 : Int32)) % 65536).toInt32)))) = ((Int32.toUInt32 ((gI h v0 (Int32.toNatClampNeg v1)) &&& (255 : Int32)) % 65536).toInt32) then some (.inl (some (.int ((Int32.toUInt32 ((gI h v0 (Int32.toNatClampNeg v1)) &&& (255 : Int32)) % 65536).toInt32))), h) else none else none :=
  (x10_6 ..).trans ((x10_7 ..).trans ((x10_8 ..).trans ((gs_if ..).trans (ic9 ((x10_9 ..).trans ((x10_12 ..).trans ((x10_13 ..).trans ((x10_14 ..).trans ((gs_if ..).trans (ic9 rfl rfl)))))) rfl))))
theorem r10 (d : Nat) (h : gd_H) (v0 : Nat) (v1 : Int32) : run gd_P0 (d + 1) 10 [.ref v0, .int v1] h = go gd_P0 d 10 0 [.ref v0, .int v1] [] h := run_succ gd_P0 d 10 [.ref v0, .int v1] h (Nat.le_of_ble_eq_true rfl)
theorem x11_0 (d : Nat) (L st : List Value) (h : gd_H) : go gd_P0 d 11 0 L st h = gs gd_P0 d 11 0 L (i_ild 0 1 L st h) := go_eq gd_P0 d 11 0 L st h
theorem x11_1 (d : Nat) (L st : List Value) (h : gd_H) : go gd_P0 d 11 1 L st h = gs gd_P0 d 11 1 L (i_iflt 9 4 L st h) := go_eq gd_P0 d 11 1 L st h
theorem x11_4 (d : Nat) (L st : List Value) (h : gd_H) : go gd_P0 d 11 4 L st h = gs gd_P0 d 11 4 L (i_ild 0 5 L st h) := go_eq gd_P0 d 11 4 L st h
theorem x11_5 (d : Nat) (L st : List Value) (h : gd_H) : go gd_P0 d 11 5 L st h = gs gd_P0 d 11 5 L (i_ild 1 6 L st h) := go_eq gd_P0 d 11 5 L st h
theorem x11_6 (d : Nat) (L st : List Value) (h : gd_H) : go gd_P0 d 11 6 L st h = gs gd_P0 d 11 6 L (i_iclt 16 9 L st h) := go_eq gd_P0 d 11 6 L st h
theorem x11_9 (d : Nat) (L st : List Value) (h : gd_H) : go gd_P0 d 11 9 L st h = gs gd_P0 d 11 9 L (i_msk [true, true, true] (i_ald 2 10) L st h) := go_eq gd_P0 d 11 9 L st h
theorem x11_10 (d : Nat) (L st : List Value) (h : gd_H) : go gd_P0 d 11 10 L st h = gs gd_P0 d 11 10 L (i_ild 0 11 L st h) := go_eq gd_P0 d 11 10 L st h
theorem x11_11 (d : Nat) (L st : List Value) (h : gd_H) : go gd_P0 d 11 11 L st h = gs gd_P0 d 11 11 L (i_ild 1 12 L st h) := go_eq gd_P0 d 11 11 L st h
theorem x11_12 (d : Nat) (L st : List Value) (h : gd_H) : go gd_P0 d 11 12 L st h = gs gd_P0 d 11 12 L (i_stk L st h) := go_eq gd_P0 d 11 12 L st h
theorem x11_16 (d : Nat) (L st : List Value) (h : gd_H) : go gd_P0 d 11 16 L st h = gs gd_P0 d 11 16 L (i_ild 0 17 L st h) := go_eq gd_P0 d 11 16 L st h
theorem x11_17 (d : Nat) (L st : List Value) (h : gd_H) : go gd_P0 d 11 17 L st h = gs gd_P0 d 11 17 L (i_iret L st h) := go_eq gd_P0 d 11 17 L st h
theorem s11_0 (d : Nat) (h : gd_H) (v0 : Int32) (v1 : Int32) (v2 : Nat) : go gd_P0 d 11 0 [.int v0, .int v1, .ref v2] [] h =
    if v0 < 0 then go gd_P0 d 11 9 [.int v0, .int v1, .ref v2] [] h else if v0 < v1 then some (.inl (some (.int v0)), h) else go gd_P0 d 11 9 [.int v0, .int v1, .ref v2] [] h :=
  (x11_0 ..).trans ((x11_1 ..).trans ((gs_if ..).trans (ic9 (rfl) ((x11_4 ..).trans ((x11_5 ..).trans ((x11_6 ..).trans ((gs_if ..).trans (ic9 ((x11_16 ..).trans ((x11_17 ..))) (rfl)))))))))
theorem s11_9 (d : Nat) (h : gd_H) (v0 : Int32) (v1 : Int32) (v2 : Nat) : go gd_P0 d 11 9 [.int v0, .int v1, .ref v2] [] h =
    none :=
  (x11_9 ..).trans ((x11_10 ..).trans ((x11_11 ..).trans ((x11_12 ..))))
theorem r11 (d : Nat) (h : gd_H) (v0 : Int32) (v1 : Int32) (v2 : Nat) : run gd_P0 (d + 1) 11 [.int v0, .int v1, .ref v2] h = go gd_P0 d 11 0 [.int v0, .int v1, .ref v2] [] h := run_succ gd_P0 d 11 [.int v0, .int v1, .ref v2] h (Nat.le_of_ble_eq_true rfl)
theorem x13_0 (d : Nat) (L st : List Value) (h : gd_H) : go gd_P0 d 13 0 L st h = gs gd_P0 d 13 0 L (i_ald 2 1 L st h) := go_eq gd_P0 d 13 0 L st h
theorem x13_1 (d : Nat) (L st : List Value) (h : gd_H) : go gd_P0 d 13 1 L st h = gs gd_P0 d 13 1 L (i_psh (.int 0) 2 L st h) := go_eq gd_P0 d 13 1 L st h
theorem x13_2 (d : Nat) (L st : List Value) (h : gd_H) : go gd_P0 d 13 2 L st h = gs gd_P0 d 13 2 L (i_ald 0 3 L st h) := go_eq gd_P0 d 13 2 L st h
theorem x13_3 (d : Nat) (L st : List Value) (h : gd_H) : go gd_P0 d 13 3 L st h = gs gd_P0 d 13 3 L (i_ild 1 4 L st h) := go_eq gd_P0 d 13 3 L st h
theorem x13_4 (d : Nat) (L st : List Value) (h : gd_H) : go gd_P0 d 13 4 L st h = gs gd_P0 d 13 4 L (i_cV 52 1 1 7 L st h) := go_eq gd_P0 d 13 4 L st h
theorem x13_7 (d : Nat) (L st : List Value) (h : gd_H) : go gd_P0 d 13 7 L st h = gs gd_P0 d 13 7 L (i_msk [false, false, false, false] (i_i2l 8) L st h) := go_eq gd_P0 d 13 7 L st h
theorem x13_8 (d : Nat) (L st : List Value) (h : gd_H) : go gd_P0 d 13 8 L st h = gs gd_P0 d 13 8 L (i_astJ 9 L st h) := go_eq gd_P0 d 13 8 L st h
theorem x13_9 (d : Nat) (L st : List Value) (h : gd_H) : go gd_P0 d 13 9 L st h = gs gd_P0 d 13 9 L (i_goto 15 L st h) := go_eq gd_P0 d 13 9 L st h
theorem x13_12 (d : Nat) (L st : List Value) (h : gd_H) : go gd_P0 d 13 12 L st h = gs gd_P0 d 13 12 L (i_msk [false, false, false, false] (i_ast 3 13) L st h) := go_eq gd_P0 d 13 12 L st h
theorem x13_13 (d : Nat) (L st : List Value) (h : gd_H) : go gd_P0 d 13 13 L st h = gs gd_P0 d 13 13 L (i_psh (.int 1) 14 L st h) := go_eq gd_P0 d 13 13 L st h
theorem x13_14 (d : Nat) (L st : List Value) (h : gd_H) : go gd_P0 d 13 14 L st h = gs gd_P0 d 13 14 L (i_iret L st h) := go_eq gd_P0 d 13 14 L st h
theorem x13_15 (d : Nat) (L st : List Value) (h : gd_H) : go gd_P0 d 13 15 L st h = gs gd_P0 d 13 15 L (i_psh (.int 0) 16 L st h) := go_eq gd_P0 d 13 15 L st h
theorem x13_16 (d : Nat) (L st : List Value) (h : gd_H) : go gd_P0 d 13 16 L st h = gs gd_P0 d 13 16 L (i_iret L st h) := go_eq gd_P0 d 13 16 L st h
theorem s13_0 (d : Nat) (h : gd_H) (v0 : Nat) (v1 : Int32) (v2 : Nat) : go gd_P0 d 13 0 [.ref v0, .int v1, .ref v2, .null] [] h =
    if gT h v0 = 1 then gc gd_P0 d 13 4 7 [.ref v0, .int v1, .ref v2, .null] [.int 0, .ref v2] (run gd_P0 d 52 [.ref v0, .int v1] h) else none :=
  (x13_0 ..).trans ((x13_1 ..).trans ((x13_2 ..).trans ((x13_3 ..).trans ((x13_4 ..).trans ((gs_if ..).trans ((ia9 (by simp)).trans (ic9 rfl rfl)))))))
theorem s13_7 (d : Nat) (h : gd_H) (w0 : Value) (w1 : Value) (w2 : Value) (w3 : Value) (z0 : Int32) (z1 : Int32) (z2 : Nat) : go gd_P0 d 13 7 [w0, w1, w2, w3] [.int z0, .int z1, .ref z2] h =
    if gT h z2 = 34 ∧ ¬ (z1 < 0 ∨ gL h z2 ≤ Int32.toNatClampNeg z1) then some (.inl (some (.int 0)), (wJ h (up1 (gJ h) z2 (Int32.toNatClampNeg z1) (Int32.toInt64 z0)))) else none :=
  (x13_7 ..).trans ((x13_8 ..).trans ((gs_if ..).trans (ic9 ((x13_9 ..).trans ((x13_15 ..).trans ((x13_16 ..)))) rfl)))
theorem s13_12 (d : Nat) (h : gd_H) (w0 : Value) (w1 : Value) (w2 : Value) (w3 : Value) (z0 : Nat) : go gd_P0 d 13 12 [w0, w1, w2, w3] [.ref z0] h =
    some (.inl (some (.int 1)), h) :=
  (x13_12 ..).trans ((x13_13 ..).trans ((x13_14 ..)))
theorem r13 (d : Nat) (h : gd_H) (v0 : Nat) (v1 : Int32) (v2 : Nat) : run gd_P0 (d + 1) 13 [.ref v0, .int v1, .ref v2] h = go gd_P0 d 13 0 [.ref v0, .int v1, .ref v2, .null] [] h := run_succ gd_P0 d 13 [.ref v0, .int v1, .ref v2] h (Nat.le_of_ble_eq_true rfl)
theorem x14_0 (d : Nat) (L st : List Value) (h : gd_H) : go gd_P0 d 14 0 L st h = gs gd_P0 d 14 0 L (i_ald 2 1 L st h) := go_eq gd_P0 d 14 0 L st h
theorem x14_1 (d : Nat) (L st : List Value) (h : gd_H) : go gd_P0 d 14 1 L st h = gs gd_P0 d 14 1 L (i_psh (.int 0) 2 L st h) := go_eq gd_P0 d 14 1 L st h
theorem x14_2 (d : Nat) (L st : List Value) (h : gd_H) : go gd_P0 d 14 2 L st h = gs gd_P0 d 14 2 L (i_ald 0 3 L st h) := go_eq gd_P0 d 14 2 L st h
theorem x14_3 (d : Nat) (L st : List Value) (h : gd_H) : go gd_P0 d 14 3 L st h = gs gd_P0 d 14 3 L (i_ild 1 4 L st h) := go_eq gd_P0 d 14 3 L st h
theorem x14_4 (d : Nat) (L st : List Value) (h : gd_H) : go gd_P0 d 14 4 L st h = gs gd_P0 d 14 4 L (i_cV 56 1 1 7 L st h) := go_eq gd_P0 d 14 4 L st h
theorem x14_7 (d : Nat) (L st : List Value) (h : gd_H) : go gd_P0 d 14 7 L st h = gs gd_P0 d 14 7 L (i_msk [false, false, false, false] (i_i2l 8) L st h) := go_eq gd_P0 d 14 7 L st h
theorem x14_8 (d : Nat) (L st : List Value) (h : gd_H) : go gd_P0 d 14 8 L st h = gs gd_P0 d 14 8 L (i_astJ 9 L st h) := go_eq gd_P0 d 14 8 L st h
theorem x14_9 (d : Nat) (L st : List Value) (h : gd_H) : go gd_P0 d 14 9 L st h = gs gd_P0 d 14 9 L (i_goto 15 L st h) := go_eq gd_P0 d 14 9 L st h
theorem x14_12 (d : Nat) (L st : List Value) (h : gd_H) : go gd_P0 d 14 12 L st h = gs gd_P0 d 14 12 L (i_msk [false, false, false, false] (i_ast 3 13) L st h) := go_eq gd_P0 d 14 12 L st h
theorem x14_13 (d : Nat) (L st : List Value) (h : gd_H) : go gd_P0 d 14 13 L st h = gs gd_P0 d 14 13 L (i_psh (.int 1) 14 L st h) := go_eq gd_P0 d 14 13 L st h
theorem x14_14 (d : Nat) (L st : List Value) (h : gd_H) : go gd_P0 d 14 14 L st h = gs gd_P0 d 14 14 L (i_iret L st h) := go_eq gd_P0 d 14 14 L st h
theorem x14_15 (d : Nat) (L st : List Value) (h : gd_H) : go gd_P0 d 14 15 L st h = gs gd_P0 d 14 15 L (i_psh (.int 0) 16 L st h) := go_eq gd_P0 d 14 15 L st h
theorem x14_16 (d : Nat) (L st : List Value) (h : gd_H) : go gd_P0 d 14 16 L st h = gs gd_P0 d 14 16 L (i_iret L st h) := go_eq gd_P0 d 14 16 L st h
theorem s14_0 (d : Nat) (h : gd_H) (v0 : Nat) (v1 : Int32) (v2 : Nat) : go gd_P0 d 14 0 [.ref v0, .int v1, .ref v2, .null] [] h =
    if gT h v0 = 1 then gc gd_P0 d 14 4 7 [.ref v0, .int v1, .ref v2, .null] [.int 0, .ref v2] (run gd_P0 d 56 [.ref v0, .int v1] h) else none :=
  (x14_0 ..).trans ((x14_1 ..).trans ((x14_2 ..).trans ((x14_3 ..).trans ((x14_4 ..).trans ((gs_if ..).trans ((ia9 (by simp)).trans (ic9 rfl rfl)))))))
theorem s14_7 (d : Nat) (h : gd_H) (w0 : Value) (w1 : Value) (w2 : Value) (w3 : Value) (z0 : Int32) (z1 : Int32) (z2 : Nat) : go gd_P0 d 14 7 [w0, w1, w2, w3] [.int z0, .int z1, .ref z2] h =
    if gT h z2 = 34 ∧ ¬ (z1 < 0 ∨ gL h z2 ≤ Int32.toNatClampNeg z1) then some (.inl (some (.int 0)), (wJ h (up1 (gJ h) z2 (Int32.toNatClampNeg z1) (Int32.toInt64 z0)))) else none :=
  (x14_7 ..).trans ((x14_8 ..).trans ((gs_if ..).trans (ic9 ((x14_9 ..).trans ((x14_15 ..).trans ((x14_16 ..)))) rfl)))
theorem s14_12 (d : Nat) (h : gd_H) (w0 : Value) (w1 : Value) (w2 : Value) (w3 : Value) (z0 : Nat) : go gd_P0 d 14 12 [w0, w1, w2, w3] [.ref z0] h =
    some (.inl (some (.int 1)), h) :=
  (x14_12 ..).trans ((x14_13 ..).trans ((x14_14 ..)))
theorem r14 (d : Nat) (h : gd_H) (v0 : Nat) (v1 : Int32) (v2 : Nat) : run gd_P0 (d + 1) 14 [.ref v0, .int v1, .ref v2] h = go gd_P0 d 14 0 [.ref v0, .int v1, .ref v2, .null] [] h := run_succ gd_P0 d 14 [.ref v0, .int v1, .ref v2] h (Nat.le_of_ble_eq_true rfl)
theorem x15_0 (d : Nat) (L st : List Value) (h : gd_H) : go gd_P0 d 15 0 L st h = gs gd_P0 d 15 0 L (i_ald 2 1 L st h) := go_eq gd_P0 d 15 0 L st h
theorem x15_1 (d : Nat) (L st : List Value) (h : gd_H) : go gd_P0 d 15 1 L st h = gs gd_P0 d 15 1 L (i_psh (.int 0) 2 L st h) := go_eq gd_P0 d 15 1 L st h
theorem x15_2 (d : Nat) (L st : List Value) (h : gd_H) : go gd_P0 d 15 2 L st h = gs gd_P0 d 15 2 L (i_ald 0 3 L st h) := go_eq gd_P0 d 15 2 L st h
theorem x15_3 (d : Nat) (L st : List Value) (h : gd_H) : go gd_P0 d 15 3 L st h = gs gd_P0 d 15 3 L (i_ild 1 4 L st h) := go_eq gd_P0 d 15 3 L st h
theorem x15_4 (d : Nat) (L st : List Value) (h : gd_H) : go gd_P0 d 15 4 L st h = gs gd_P0 d 15 4 L (i_cV 57 1 1 7 L st h) := go_eq gd_P0 d 15 4 L st h
theorem x15_7 (d : Nat) (L st : List Value) (h : gd_H) : go gd_P0 d 15 7 L st h = gs gd_P0 d 15 7 L (i_msk [false, false, false, false] (i_i2l 8) L st h) := go_eq gd_P0 d 15 7 L st h
theorem x15_8 (d : Nat) (L st : List Value) (h : gd_H) : go gd_P0 d 15 8 L st h = gs gd_P0 d 15 8 L (i_astJ 9 L st h) := go_eq gd_P0 d 15 8 L st h
theorem x15_9 (d : Nat) (L st : List Value) (h : gd_H) : go gd_P0 d 15 9 L st h = gs gd_P0 d 15 9 L (i_goto 15 L st h) := go_eq gd_P0 d 15 9 L st h
theorem x15_12 (d : Nat) (L st : List Value) (h : gd_H) : go gd_P0 d 15 12 L st h = gs gd_P0 d 15 12 L (i_msk [false, false, false, false] (i_ast 3 13) L st h) := go_eq gd_P0 d 15 12 L st h
theorem x15_13 (d : Nat) (L st : List Value) (h : gd_H) : go gd_P0 d 15 13 L st h = gs gd_P0 d 15 13 L (i_psh (.int 1) 14 L st h) := go_eq gd_P0 d 15 13 L st h
theorem x15_14 (d : Nat) (L st : List Value) (h : gd_H) : go gd_P0 d 15 14 L st h = gs gd_P0 d 15 14 L (i_iret L st h) := go_eq gd_P0 d 15 14 L st h
theorem x15_15 (d : Nat) (L st : List Value) (h : gd_H) : go gd_P0 d 15 15 L st h = gs gd_P0 d 15 15 L (i_psh (.int 0) 16 L st h) := go_eq gd_P0 d 15 15 L st h
theorem x15_16 (d : Nat) (L st : List Value) (h : gd_H) : go gd_P0 d 15 16 L st h = gs gd_P0 d 15 16 L (i_iret L st h) := go_eq gd_P0 d 15 16 L st h
theorem s15_0 (d : Nat) (h : gd_H) (v0 : Nat) (v1 : Int32) (v2 : Nat) : go gd_P0 d 15 0 [.ref v0, .int v1, .ref v2, .null] [] h =
    if gT h v0 = 1 then gc gd_P0 d 15 4 7 [.ref v0, .int v1, .ref v2, .null] [.int 0, .ref v2] (run gd_P0 d 57 [.ref v0, .int v1] h) else none :=
  (x15_0 ..).trans ((x15_1 ..).trans ((x15_2 ..).trans ((x15_3 ..).trans ((x15_4 ..).trans ((gs_if ..).trans ((ia9 (by simp)).trans (ic9 rfl rfl)))))))
theorem s15_7 (d : Nat) (h : gd_H) (w0 : Value) (w1 : Value) (w2 : Value) (w3 : Value) (z0 : Int32) (z1 : Int32) (z2 : Nat) : go gd_P0 d 15 7 [w0, w1, w2, w3] [.int z0, .int z1, .ref z2] h =
    if gT h z2 = 34 ∧ ¬ (z1 < 0 ∨ gL h z2 ≤ Int32.toNatClampNeg z1) then some (.inl (some (.int 0)), (wJ h (up1 (gJ h) z2 (Int32.toNatClampNeg z1) (Int32.toInt64 z0)))) else none :=
  (x15_7 ..).trans ((x15_8 ..).trans ((gs_if ..).trans (ic9 ((x15_9 ..).trans ((x15_15 ..).trans ((x15_16 ..)))) rfl)))
theorem s15_12 (d : Nat) (h : gd_H) (w0 : Value) (w1 : Value) (w2 : Value) (w3 : Value) (z0 : Nat) : go gd_P0 d 15 12 [w0, w1, w2, w3] [.ref z0] h =
    some (.inl (some (.int 1)), h) :=
  (x15_12 ..).trans ((x15_13 ..).trans ((x15_14 ..)))
theorem r15 (d : Nat) (h : gd_H) (v0 : Nat) (v1 : Int32) (v2 : Nat) : run gd_P0 (d + 1) 15 [.ref v0, .int v1, .ref v2] h = go gd_P0 d 15 0 [.ref v0, .int v1, .ref v2, .null] [] h := run_succ gd_P0 d 15 [.ref v0, .int v1, .ref v2] h (Nat.le_of_ble_eq_true rfl)
theorem x16_0 (d : Nat) (L st : List Value) (h : gd_H) : go gd_P0 d 16 0 L st h = gs gd_P0 d 16 0 L (i_ald 2 1 L st h) := go_eq gd_P0 d 16 0 L st h
theorem x16_1 (d : Nat) (L st : List Value) (h : gd_H) : go gd_P0 d 16 1 L st h = gs gd_P0 d 16 1 L (i_psh (.int 0) 2 L st h) := go_eq gd_P0 d 16 1 L st h
theorem x16_2 (d : Nat) (L st : List Value) (h : gd_H) : go gd_P0 d 16 2 L st h = gs gd_P0 d 16 2 L (i_ald 0 3 L st h) := go_eq gd_P0 d 16 2 L st h
theorem x16_3 (d : Nat) (L st : List Value) (h : gd_H) : go gd_P0 d 16 3 L st h = gs gd_P0 d 16 3 L (i_ild 1 4 L st h) := go_eq gd_P0 d 16 3 L st h
theorem x16_4 (d : Nat) (L st : List Value) (h : gd_H) : go gd_P0 d 16 4 L st h = gs gd_P0 d 16 4 L (i_cV 58 1 1 7 L st h) := go_eq gd_P0 d 16 4 L st h
theorem x16_7 (d : Nat) (L st : List Value) (h : gd_H) : go gd_P0 d 16 7 L st h = gs gd_P0 d 16 7 L (i_msk [false, false, false, false] (i_i2l 8) L st h) := go_eq gd_P0 d 16 7 L st h
theorem x16_8 (d : Nat) (L st : List Value) (h : gd_H) : go gd_P0 d 16 8 L st h = gs gd_P0 d 16 8 L (i_astJ 9 L st h) := go_eq gd_P0 d 16 8 L st h
theorem x16_9 (d : Nat) (L st : List Value) (h : gd_H) : go gd_P0 d 16 9 L st h = gs gd_P0 d 16 9 L (i_goto 15 L st h) := go_eq gd_P0 d 16 9 L st h
theorem x16_12 (d : Nat) (L st : List Value) (h : gd_H) : go gd_P0 d 16 12 L st h = gs gd_P0 d 16 12 L (i_msk [false, false, false, false] (i_ast 3 13) L st h) := go_eq gd_P0 d 16 12 L st h
theorem x16_13 (d : Nat) (L st : List Value) (h : gd_H) : go gd_P0 d 16 13 L st h = gs gd_P0 d 16 13 L (i_psh (.int 1) 14 L st h) := go_eq gd_P0 d 16 13 L st h
theorem x16_14 (d : Nat) (L st : List Value) (h : gd_H) : go gd_P0 d 16 14 L st h = gs gd_P0 d 16 14 L (i_iret L st h) := go_eq gd_P0 d 16 14 L st h
theorem x16_15 (d : Nat) (L st : List Value) (h : gd_H) : go gd_P0 d 16 15 L st h = gs gd_P0 d 16 15 L (i_psh (.int 0) 16 L st h) := go_eq gd_P0 d 16 15 L st h
theorem x16_16 (d : Nat) (L st : List Value) (h : gd_H) : go gd_P0 d 16 16 L st h = gs gd_P0 d 16 16 L (i_iret L st h) := go_eq gd_P0 d 16 16 L st h
theorem s16_0 (d : Nat) (h : gd_H) (v0 : Nat) (v1 : Int32) (v2 : Nat) : go gd_P0 d 16 0 [.ref v0, .int v1, .ref v2, .null] [] h =
    if gT h v0 = 1 then gc gd_P0 d 16 4 7 [.ref v0, .int v1, .ref v2, .null] [.int 0, .ref v2] (run gd_P0 d 58 [.ref v0, .int v1] h) else none :=
  (x16_0 ..).trans ((x16_1 ..).trans ((x16_2 ..).trans ((x16_3 ..).trans ((x16_4 ..).trans ((gs_if ..).trans ((ia9 (by simp)).trans (ic9 rfl rfl)))))))
theorem s16_7 (d : Nat) (h : gd_H) (w0 : Value) (w1 : Value) (w2 : Value) (w3 : Value) (z0 : Int32) (z1 : Int32) (z2 : Nat) : go gd_P0 d 16 7 [w0, w1, w2, w3] [.int z0, .int z1, .ref z2] h =
    if gT h z2 = 34 ∧ ¬ (z1 < 0 ∨ gL h z2 ≤ Int32.toNatClampNeg z1) then some (.inl (some (.int 0)), (wJ h (up1 (gJ h) z2 (Int32.toNatClampNeg z1) (Int32.toInt64 z0)))) else none :=
  (x16_7 ..).trans ((x16_8 ..).trans ((gs_if ..).trans (ic9 ((x16_9 ..).trans ((x16_15 ..).trans ((x16_16 ..)))) rfl)))
theorem s16_12 (d : Nat) (h : gd_H) (w0 : Value) (w1 : Value) (w2 : Value) (w3 : Value) (z0 : Nat) : go gd_P0 d 16 12 [w0, w1, w2, w3] [.ref z0] h =
    some (.inl (some (.int 1)), h) :=
  (x16_12 ..).trans ((x16_13 ..).trans ((x16_14 ..)))
theorem r16 (d : Nat) (h : gd_H) (v0 : Nat) (v1 : Int32) (v2 : Nat) : run gd_P0 (d + 1) 16 [.ref v0, .int v1, .ref v2] h = go gd_P0 d 16 0 [.ref v0, .int v1, .ref v2, .null] [] h := run_succ gd_P0 d 16 [.ref v0, .int v1, .ref v2] h (Nat.le_of_ble_eq_true rfl)
theorem x17_0 (d : Nat) (L st : List Value) (h : gd_H) : go gd_P0 d 17 0 L st h = gs gd_P0 d 17 0 L (i_ald 2 1 L st h) := go_eq gd_P0 d 17 0 L st h
theorem x17_1 (d : Nat) (L st : List Value) (h : gd_H) : go gd_P0 d 17 1 L st h = gs gd_P0 d 17 1 L (i_psh (.int 0) 2 L st h) := go_eq gd_P0 d 17 1 L st h
theorem x17_2 (d : Nat) (L st : List Value) (h : gd_H) : go gd_P0 d 17 2 L st h = gs gd_P0 d 17 2 L (i_ald 0 3 L st h) := go_eq gd_P0 d 17 2 L st h
theorem x17_3 (d : Nat) (L st : List Value) (h : gd_H) : go gd_P0 d 17 3 L st h = gs gd_P0 d 17 3 L (i_ild 1 4 L st h) := go_eq gd_P0 d 17 3 L st h
theorem x17_4 (d : Nat) (L st : List Value) (h : gd_H) : go gd_P0 d 17 4 L st h = gs gd_P0 d 17 4 L (i_cV 59 1 1 7 L st h) := go_eq gd_P0 d 17 4 L st h
theorem x17_7 (d : Nat) (L st : List Value) (h : gd_H) : go gd_P0 d 17 7 L st h = gs gd_P0 d 17 7 L (i_msk [false, false, false, false] (i_i2l 8) L st h) := go_eq gd_P0 d 17 7 L st h
theorem x17_8 (d : Nat) (L st : List Value) (h : gd_H) : go gd_P0 d 17 8 L st h = gs gd_P0 d 17 8 L (i_astJ 9 L st h) := go_eq gd_P0 d 17 8 L st h
theorem x17_9 (d : Nat) (L st : List Value) (h : gd_H) : go gd_P0 d 17 9 L st h = gs gd_P0 d 17 9 L (i_goto 15 L st h) := go_eq gd_P0 d 17 9 L st h
theorem x17_12 (d : Nat) (L st : List Value) (h : gd_H) : go gd_P0 d 17 12 L st h = gs gd_P0 d 17 12 L (i_msk [false, false, false, false] (i_ast 3 13) L st h) := go_eq gd_P0 d 17 12 L st h
theorem x17_13 (d : Nat) (L st : List Value) (h : gd_H) : go gd_P0 d 17 13 L st h = gs gd_P0 d 17 13 L (i_psh (.int 1) 14 L st h) := go_eq gd_P0 d 17 13 L st h
theorem x17_14 (d : Nat) (L st : List Value) (h : gd_H) : go gd_P0 d 17 14 L st h = gs gd_P0 d 17 14 L (i_iret L st h) := go_eq gd_P0 d 17 14 L st h
theorem x17_15 (d : Nat) (L st : List Value) (h : gd_H) : go gd_P0 d 17 15 L st h = gs gd_P0 d 17 15 L (i_psh (.int 0) 16 L st h) := go_eq gd_P0 d 17 15 L st h
theorem x17_16 (d : Nat) (L st : List Value) (h : gd_H) : go gd_P0 d 17 16 L st h = gs gd_P0 d 17 16 L (i_iret L st h) := go_eq gd_P0 d 17 16 L st h
theorem s17_0 (d : Nat) (h : gd_H) (v0 : Nat) (v1 : Int32) (v2 : Nat) : go gd_P0 d 17 0 [.ref v0, .int v1, .ref v2, .null] [] h =
    if gT h v0 = 1 then gc gd_P0 d 17 4 7 [.ref v0, .int v1, .ref v2, .null] [.int 0, .ref v2] (run gd_P0 d 59 [.ref v0, .int v1] h) else none :=
  (x17_0 ..).trans ((x17_1 ..).trans ((x17_2 ..).trans ((x17_3 ..).trans ((x17_4 ..).trans ((gs_if ..).trans ((ia9 (by simp)).trans (ic9 rfl rfl)))))))
theorem s17_7 (d : Nat) (h : gd_H) (w0 : Value) (w1 : Value) (w2 : Value) (w3 : Value) (z0 : Int32) (z1 : Int32) (z2 : Nat) : go gd_P0 d 17 7 [w0, w1, w2, w3] [.int z0, .int z1, .ref z2] h =
    if gT h z2 = 34 ∧ ¬ (z1 < 0 ∨ gL h z2 ≤ Int32.toNatClampNeg z1) then some (.inl (some (.int 0)), (wJ h (up1 (gJ h) z2 (Int32.toNatClampNeg z1) (Int32.toInt64 z0)))) else none :=
  (x17_7 ..).trans ((x17_8 ..).trans ((gs_if ..).trans (ic9 ((x17_9 ..).trans ((x17_15 ..).trans ((x17_16 ..)))) rfl)))
theorem s17_12 (d : Nat) (h : gd_H) (w0 : Value) (w1 : Value) (w2 : Value) (w3 : Value) (z0 : Nat) : go gd_P0 d 17 12 [w0, w1, w2, w3] [.ref z0] h =
    some (.inl (some (.int 1)), h) :=
  (x17_12 ..).trans ((x17_13 ..).trans ((x17_14 ..)))
theorem r17 (d : Nat) (h : gd_H) (v0 : Nat) (v1 : Int32) (v2 : Nat) : run gd_P0 (d + 1) 17 [.ref v0, .int v1, .ref v2] h = go gd_P0 d 17 0 [.ref v0, .int v1, .ref v2, .null] [] h := run_succ gd_P0 d 17 [.ref v0, .int v1, .ref v2] h (Nat.le_of_ble_eq_true rfl)
theorem x18_0 (d : Nat) (L st : List Value) (h : gd_H) : go gd_P0 d 18 0 L st h = gs gd_P0 d 18 0 L (i_ald 3 1 L st h) := go_eq gd_P0 d 18 0 L st h
theorem x18_1 (d : Nat) (L st : List Value) (h : gd_H) : go gd_P0 d 18 1 L st h = gs gd_P0 d 18 1 L (i_psh (.int 0) 2 L st h) := go_eq gd_P0 d 18 1 L st h
theorem x18_2 (d : Nat) (L st : List Value) (h : gd_H) : go gd_P0 d 18 2 L st h = gs gd_P0 d 18 2 L (i_ald 0 3 L st h) := go_eq gd_P0 d 18 2 L st h
theorem x18_3 (d : Nat) (L st : List Value) (h : gd_H) : go gd_P0 d 18 3 L st h = gs gd_P0 d 18 3 L (i_ild 1 4 L st h) := go_eq gd_P0 d 18 3 L st h
theorem x18_4 (d : Nat) (L st : List Value) (h : gd_H) : go gd_P0 d 18 4 L st h = gs gd_P0 d 18 4 L (i_ild 2 5 L st h) := go_eq gd_P0 d 18 4 L st h
theorem x18_5 (d : Nat) (L st : List Value) (h : gd_H) : go gd_P0 d 18 5 L st h = gs gd_P0 d 18 5 L (i_cV 60 2 1 8 L st h) := go_eq gd_P0 d 18 5 L st h
theorem x18_8 (d : Nat) (L st : List Value) (h : gd_H) : go gd_P0 d 18 8 L st h = gs gd_P0 d 18 8 L (i_msk [false, false, false, false, false] (i_i2l 9) L st h) := go_eq gd_P0 d 18 8 L st h
theorem x18_9 (d : Nat) (L st : List Value) (h : gd_H) : go gd_P0 d 18 9 L st h = gs gd_P0 d 18 9 L (i_astJ 10 L st h) := go_eq gd_P0 d 18 9 L st h
theorem x18_10 (d : Nat) (L st : List Value) (h : gd_H) : go gd_P0 d 18 10 L st h = gs gd_P0 d 18 10 L (i_goto 21 L st h) := go_eq gd_P0 d 18 10 L st h
theorem x18_13 (d : Nat) (L st : List Value) (h : gd_H) : go gd_P0 d 18 13 L st h = gs gd_P0 d 18 13 L (i_msk [false, false, false, false, false] (i_ast 4 15) L st h) := go_eq gd_P0 d 18 13 L st h
theorem x18_15 (d : Nat) (L st : List Value) (h : gd_H) : go gd_P0 d 18 15 L st h = gs gd_P0 d 18 15 L (i_psh (.int 1) 16 L st h) := go_eq gd_P0 d 18 15 L st h
theorem x18_16 (d : Nat) (L st : List Value) (h : gd_H) : go gd_P0 d 18 16 L st h = gs gd_P0 d 18 16 L (i_iret L st h) := go_eq gd_P0 d 18 16 L st h
theorem x18_17 (d : Nat) (L st : List Value) (h : gd_H) : go gd_P0 d 18 17 L st h = gs gd_P0 d 18 17 L (i_msk [false, false, false, false, false] (i_ast 4 19) L st h) := go_eq gd_P0 d 18 17 L st h
theorem x18_19 (d : Nat) (L st : List Value) (h : gd_H) : go gd_P0 d 18 19 L st h = gs gd_P0 d 18 19 L (i_psh (.int 2) 20 L st h) := go_eq gd_P0 d 18 19 L st h
theorem x18_20 (d : Nat) (L st : List Value) (h : gd_H) : go gd_P0 d 18 20 L st h = gs gd_P0 d 18 20 L (i_iret L st h) := go_eq gd_P0 d 18 20 L st h
theorem x18_21 (d : Nat) (L st : List Value) (h : gd_H) : go gd_P0 d 18 21 L st h = gs gd_P0 d 18 21 L (i_psh (.int 0) 22 L st h) := go_eq gd_P0 d 18 21 L st h
theorem x18_22 (d : Nat) (L st : List Value) (h : gd_H) : go gd_P0 d 18 22 L st h = gs gd_P0 d 18 22 L (i_iret L st h) := go_eq gd_P0 d 18 22 L st h
theorem s18_0 (d : Nat) (h : gd_H) (v0 : Nat) (v1 : Int32) (v2 : Int32) (v3 : Nat) : go gd_P0 d 18 0 [.ref v0, .int v1, .int v2, .ref v3, .null] [] h =
    if gT h v0 = 1 then gc gd_P0 d 18 5 8 [.ref v0, .int v1, .int v2, .ref v3, .null] [.int 0, .ref v3] (run gd_P0 d 60 [.ref v0, .int v1, .int v2] h) else none :=
  (x18_0 ..).trans ((x18_1 ..).trans ((x18_2 ..).trans ((x18_3 ..).trans ((x18_4 ..).trans ((x18_5 ..).trans ((gs_if ..).trans ((ia9 (by simp)).trans (ic9 rfl rfl))))))))
theorem s18_8 (d : Nat) (h : gd_H) (w0 : Value) (w1 : Value) (w2 : Value) (w3 : Value) (w4 : Value) (z0 : Int32) (z1 : Int32) (z2 : Nat) : go gd_P0 d 18 8 [w0, w1, w2, w3, w4] [.int z0, .int z1, .ref z2] h =
    if gT h z2 = 34 ∧ ¬ (z1 < 0 ∨ gL h z2 ≤ Int32.toNatClampNeg z1) then some (.inl (some (.int 0)), (wJ h (up1 (gJ h) z2 (Int32.toNatClampNeg z1) (Int32.toInt64 z0)))) else none :=
  (x18_8 ..).trans ((x18_9 ..).trans ((gs_if ..).trans (ic9 ((x18_10 ..).trans ((x18_21 ..).trans ((x18_22 ..)))) rfl)))
theorem s18_13 (d : Nat) (h : gd_H) (w0 : Value) (w1 : Value) (w2 : Value) (w3 : Value) (w4 : Value) (z0 : Nat) : go gd_P0 d 18 13 [w0, w1, w2, w3, w4] [.ref z0] h =
    some (.inl (some (.int 1)), h) :=
  (x18_13 ..).trans ((x18_15 ..).trans ((x18_16 ..)))
theorem s18_17 (d : Nat) (h : gd_H) (w0 : Value) (w1 : Value) (w2 : Value) (w3 : Value) (w4 : Value) (z0 : Nat) : go gd_P0 d 18 17 [w0, w1, w2, w3, w4] [.ref z0] h =
    some (.inl (some (.int 2)), h) :=
  (x18_17 ..).trans ((x18_19 ..).trans ((x18_20 ..)))
theorem r18 (d : Nat) (h : gd_H) (v0 : Nat) (v1 : Int32) (v2 : Int32) (v3 : Nat) : run gd_P0 (d + 1) 18 [.ref v0, .int v1, .int v2, .ref v3] h = go gd_P0 d 18 0 [.ref v0, .int v1, .int v2, .ref v3, .null] [] h := run_succ gd_P0 d 18 [.ref v0, .int v1, .int v2, .ref v3] h (Nat.le_of_ble_eq_true rfl)
theorem x19_0 (d : Nat) (L st : List Value) (h : gd_H) : go gd_P0 d 19 0 L st h = gs gd_P0 d 19 0 L (i_ald 3 1 L st h) := go_eq gd_P0 d 19 0 L st h
theorem x19_1 (d : Nat) (L st : List Value) (h : gd_H) : go gd_P0 d 19 1 L st h = gs gd_P0 d 19 1 L (i_psh (.int 0) 2 L st h) := go_eq gd_P0 d 19 1 L st h
theorem x19_2 (d : Nat) (L st : List Value) (h : gd_H) : go gd_P0 d 19 2 L st h = gs gd_P0 d 19 2 L (i_ald 0 3 L st h) := go_eq gd_P0 d 19 2 L st h
theorem x19_3 (d : Nat) (L st : List Value) (h : gd_H) : go gd_P0 d 19 3 L st h = gs gd_P0 d 19 3 L (i_ild 1 4 L st h) := go_eq gd_P0 d 19 3 L st h
theorem x19_4 (d : Nat) (L st : List Value) (h : gd_H) : go gd_P0 d 19 4 L st h = gs gd_P0 d 19 4 L (i_ild 2 5 L st h) := go_eq gd_P0 d 19 4 L st h
theorem x19_5 (d : Nat) (L st : List Value) (h : gd_H) : go gd_P0 d 19 5 L st h = gs gd_P0 d 19 5 L (i_cV 63 2 1 8 L st h) := go_eq gd_P0 d 19 5 L st h
theorem x19_8 (d : Nat) (L st : List Value) (h : gd_H) : go gd_P0 d 19 8 L st h = gs gd_P0 d 19 8 L (i_msk [false, false, false, false, false] (i_i2l 9) L st h) := go_eq gd_P0 d 19 8 L st h
theorem x19_9 (d : Nat) (L st : List Value) (h : gd_H) : go gd_P0 d 19 9 L st h = gs gd_P0 d 19 9 L (i_astJ 10 L st h) := go_eq gd_P0 d 19 9 L st h
theorem x19_10 (d : Nat) (L st : List Value) (h : gd_H) : go gd_P0 d 19 10 L st h = gs gd_P0 d 19 10 L (i_goto 21 L st h) := go_eq gd_P0 d 19 10 L st h
theorem x19_13 (d : Nat) (L st : List Value) (h : gd_H) : go gd_P0 d 19 13 L st h = gs gd_P0 d 19 13 L (i_msk [false, false, false, false, false] (i_ast 4 15) L st h) := go_eq gd_P0 d 19 13 L st h
theorem x19_15 (d : Nat) (L st : List Value) (h : gd_H) : go gd_P0 d 19 15 L st h = gs gd_P0 d 19 15 L (i_psh (.int 1) 16 L st h) := go_eq gd_P0 d 19 15 L st h
theorem x19_16 (d : Nat) (L st : List Value) (h : gd_H) : go gd_P0 d 19 16 L st h = gs gd_P0 d 19 16 L (i_iret L st h) := go_eq gd_P0 d 19 16 L st h
theorem x19_17 (d : Nat) (L st : List Value) (h : gd_H) : go gd_P0 d 19 17 L st h = gs gd_P0 d 19 17 L (i_msk [false, false, false, false, false] (i_ast 4 19) L st h) := go_eq gd_P0 d 19 17 L st h
theorem x19_19 (d : Nat) (L st : List Value) (h : gd_H) : go gd_P0 d 19 19 L st h = gs gd_P0 d 19 19 L (i_psh (.int 2) 20 L st h) := go_eq gd_P0 d 19 19 L st h
theorem x19_20 (d : Nat) (L st : List Value) (h : gd_H) : go gd_P0 d 19 20 L st h = gs gd_P0 d 19 20 L (i_iret L st h) := go_eq gd_P0 d 19 20 L st h
theorem x19_21 (d : Nat) (L st : List Value) (h : gd_H) : go gd_P0 d 19 21 L st h = gs gd_P0 d 19 21 L (i_psh (.int 0) 22 L st h) := go_eq gd_P0 d 19 21 L st h
theorem x19_22 (d : Nat) (L st : List Value) (h : gd_H) : go gd_P0 d 19 22 L st h = gs gd_P0 d 19 22 L (i_iret L st h) := go_eq gd_P0 d 19 22 L st h
theorem s19_0 (d : Nat) (h : gd_H) (v0 : Nat) (v1 : Int32) (v2 : Int32) (v3 : Nat) : go gd_P0 d 19 0 [.ref v0, .int v1, .int v2, .ref v3, .null] [] h =
    if gT h v0 = 1 then gc gd_P0 d 19 5 8 [.ref v0, .int v1, .int v2, .ref v3, .null] [.int 0, .ref v3] (run gd_P0 d 63 [.ref v0, .int v1, .int v2] h) else none :=
  (x19_0 ..).trans ((x19_1 ..).trans ((x19_2 ..).trans ((x19_3 ..).trans ((x19_4 ..).trans ((x19_5 ..).trans ((gs_if ..).trans ((ia9 (by simp)).trans (ic9 rfl rfl))))))))
theorem s19_8 (d : Nat) (h : gd_H) (w0 : Value) (w1 : Value) (w2 : Value) (w3 : Value) (w4 : Value) (z0 : Int32) (z1 : Int32) (z2 : Nat) : go gd_P0 d 19 8 [w0, w1, w2, w3, w4] [.int z0, .int z1, .ref z2] h =
    if gT h z2 = 34 ∧ ¬ (z1 < 0 ∨ gL h z2 ≤ Int32.toNatClampNeg z1) then some (.inl (some (.int 0)), (wJ h (up1 (gJ h) z2 (Int32.toNatClampNeg z1) (Int32.toInt64 z0)))) else none :=
  (x19_8 ..).trans ((x19_9 ..).trans ((gs_if ..).trans (ic9 ((x19_10 ..).trans ((x19_21 ..).trans ((x19_22 ..)))) rfl)))
theorem s19_13 (d : Nat) (h : gd_H) (w0 : Value) (w1 : Value) (w2 : Value) (w3 : Value) (w4 : Value) (z0 : Nat) : go gd_P0 d 19 13 [w0, w1, w2, w3, w4] [.ref z0] h =
    some (.inl (some (.int 1)), h) :=
  (x19_13 ..).trans ((x19_15 ..).trans ((x19_16 ..)))
theorem s19_17 (d : Nat) (h : gd_H) (w0 : Value) (w1 : Value) (w2 : Value) (w3 : Value) (w4 : Value) (z0 : Nat) : go gd_P0 d 19 17 [w0, w1, w2, w3, w4] [.ref z0] h =
    some (.inl (some (.int 2)), h) :=
  (x19_17 ..).trans ((x19_19 ..).trans ((x19_20 ..)))
theorem r19 (d : Nat) (h : gd_H) (v0 : Nat) (v1 : Int32) (v2 : Int32) (v3 : Nat) : run gd_P0 (d + 1) 19 [.ref v0, .int v1, .int v2, .ref v3] h = go gd_P0 d 19 0 [.ref v0, .int v1, .int v2, .ref v3, .null] [] h := run_succ gd_P0 d 19 [.ref v0, .int v1, .int v2, .ref v3] h (Nat.le_of_ble_eq_true rfl)
theorem x20_0 (d : Nat) (L st : List Value) (h : gd_H) : go gd_P0 d 20 0 L st h = gs gd_P0 d 20 0 L (i_ald 2 1 L st h) := go_eq gd_P0 d 20 0 L st h
theorem x20_1 (d : Nat) (L st : List Value) (h : gd_H) : go gd_P0 d 20 1 L st h = gs gd_P0 d 20 1 L (i_psh (.int 0) 2 L st h) := go_eq gd_P0 d 20 1 L st h
theorem x20_2 (d : Nat) (L st : List Value) (h : gd_H) : go gd_P0 d 20 2 L st h = gs gd_P0 d 20 2 L (i_ald 0 3 L st h) := go_eq gd_P0 d 20 2 L st h
theorem x20_3 (d : Nat) (L st : List Value) (h : gd_H) : go gd_P0 d 20 3 L st h = gs gd_P0 d 20 3 L (i_ild 1 4 L st h) := go_eq gd_P0 d 20 3 L st h
theorem x20_4 (d : Nat) (L st : List Value) (h : gd_H) : go gd_P0 d 20 4 L st h = gs gd_P0 d 20 4 L (i_cV 65 1 1 7 L st h) := go_eq gd_P0 d 20 4 L st h
theorem x20_7 (d : Nat) (L st : List Value) (h : gd_H) : go gd_P0 d 20 7 L st h = gs gd_P0 d 20 7 L (i_msk [false, false, false, false] (i_i2l 8) L st h) := go_eq gd_P0 d 20 7 L st h
theorem x20_8 (d : Nat) (L st : List Value) (h : gd_H) : go gd_P0 d 20 8 L st h = gs gd_P0 d 20 8 L (i_astJ 9 L st h) := go_eq gd_P0 d 20 8 L st h
theorem x20_9 (d : Nat) (L st : List Value) (h : gd_H) : go gd_P0 d 20 9 L st h = gs gd_P0 d 20 9 L (i_goto 15 L st h) := go_eq gd_P0 d 20 9 L st h
theorem x20_12 (d : Nat) (L st : List Value) (h : gd_H) : go gd_P0 d 20 12 L st h = gs gd_P0 d 20 12 L (i_msk [false, false, false, false] (i_ast 3 13) L st h) := go_eq gd_P0 d 20 12 L st h
theorem x20_13 (d : Nat) (L st : List Value) (h : gd_H) : go gd_P0 d 20 13 L st h = gs gd_P0 d 20 13 L (i_psh (.int 1) 14 L st h) := go_eq gd_P0 d 20 13 L st h
theorem x20_14 (d : Nat) (L st : List Value) (h : gd_H) : go gd_P0 d 20 14 L st h = gs gd_P0 d 20 14 L (i_iret L st h) := go_eq gd_P0 d 20 14 L st h
theorem x20_15 (d : Nat) (L st : List Value) (h : gd_H) : go gd_P0 d 20 15 L st h = gs gd_P0 d 20 15 L (i_psh (.int 0) 16 L st h) := go_eq gd_P0 d 20 15 L st h
theorem x20_16 (d : Nat) (L st : List Value) (h : gd_H) : go gd_P0 d 20 16 L st h = gs gd_P0 d 20 16 L (i_iret L st h) := go_eq gd_P0 d 20 16 L st h
theorem s20_0 (d : Nat) (h : gd_H) (v0 : Nat) (v1 : Int32) (v2 : Nat) : go gd_P0 d 20 0 [.ref v0, .int v1, .ref v2, .null] [] h =
    if gT h v0 = 1 then gc gd_P0 d 20 4 7 [.ref v0, .int v1, .ref v2, .null] [.int 0, .ref v2] (run gd_P0 d 65 [.ref v0, .int v1] h) else none :=
  (x20_0 ..).trans ((x20_1 ..).trans ((x20_2 ..).trans ((x20_3 ..).trans ((x20_4 ..).trans ((gs_if ..).trans ((ia9 (by simp)).trans (ic9 rfl rfl)))))))
theorem s20_7 (d : Nat) (h : gd_H) (w0 : Value) (w1 : Value) (w2 : Value) (w3 : Value) (z0 : Int32) (z1 : Int32) (z2 : Nat) : go gd_P0 d 20 7 [w0, w1, w2, w3] [.int z0, .int z1, .ref z2] h =
    if gT h z2 = 34 ∧ ¬ (z1 < 0 ∨ gL h z2 ≤ Int32.toNatClampNeg z1) then some (.inl (some (.int 0)), (wJ h (up1 (gJ h) z2 (Int32.toNatClampNeg z1) (Int32.toInt64 z0)))) else none :=
  (x20_7 ..).trans ((x20_8 ..).trans ((gs_if ..).trans (ic9 ((x20_9 ..).trans ((x20_15 ..).trans ((x20_16 ..)))) rfl)))
theorem s20_12 (d : Nat) (h : gd_H) (w0 : Value) (w1 : Value) (w2 : Value) (w3 : Value) (z0 : Nat) : go gd_P0 d 20 12 [w0, w1, w2, w3] [.ref z0] h =
    some (.inl (some (.int 1)), h) :=
  (x20_12 ..).trans ((x20_13 ..).trans ((x20_14 ..)))
theorem r20 (d : Nat) (h : gd_H) (v0 : Nat) (v1 : Int32) (v2 : Nat) : run gd_P0 (d + 1) 20 [.ref v0, .int v1, .ref v2] h = go gd_P0 d 20 0 [.ref v0, .int v1, .ref v2, .null] [] h := run_succ gd_P0 d 20 [.ref v0, .int v1, .ref v2] h (Nat.le_of_ble_eq_true rfl)
theorem x21_0 (d : Nat) (L st : List Value) (h : gd_H) : go gd_P0 d 21 0 L st h = gs gd_P0 d 21 0 L (i_ald 9 2 L st h) := go_eq gd_P0 d 21 0 L st h
theorem x21_2 (d : Nat) (L st : List Value) (h : gd_H) : go gd_P0 d 21 2 L st h = gs gd_P0 d 21 2 L (i_psh (.int 0) 3 L st h) := go_eq gd_P0 d 21 2 L st h
theorem x21_3 (d : Nat) (L st : List Value) (h : gd_H) : go gd_P0 d 21 3 L st h = gs gd_P0 d 21 3 L (i_ald 0 4 L st h) := go_eq gd_P0 d 21 3 L st h
theorem x21_4 (d : Nat) (L st : List Value) (h : gd_H) : go gd_P0 d 21 4 L st h = gs gd_P0 d 21 4 L (i_ild 1 5 L st h) := go_eq gd_P0 d 21 4 L st h
theorem x21_5 (d : Nat) (L st : List Value) (h : gd_H) : go gd_P0 d 21 5 L st h = gs gd_P0 d 21 5 L (i_ild 2 6 L st h) := go_eq gd_P0 d 21 5 L st h
theorem x21_6 (d : Nat) (L st : List Value) (h : gd_H) : go gd_P0 d 21 6 L st h = gs gd_P0 d 21 6 L (i_ild 3 7 L st h) := go_eq gd_P0 d 21 6 L st h
theorem x21_7 (d : Nat) (L st : List Value) (h : gd_H) : go gd_P0 d 21 7 L st h = gs gd_P0 d 21 7 L (i_ild 4 9 L st h) := go_eq gd_P0 d 21 7 L st h
theorem x21_9 (d : Nat) (L st : List Value) (h : gd_H) : go gd_P0 d 21 9 L st h = gs gd_P0 d 21 9 L (i_ild 5 11 L st h) := go_eq gd_P0 d 21 9 L st h
theorem x21_11 (d : Nat) (L st : List Value) (h : gd_H) : go gd_P0 d 21 11 L st h = gs gd_P0 d 21 11 L (i_ild 6 13 L st h) := go_eq gd_P0 d 21 11 L st h
theorem x21_13 (d : Nat) (L st : List Value) (h : gd_H) : go gd_P0 d 21 13 L st h = gs gd_P0 d 21 13 L (i_ild 7 15 L st h) := go_eq gd_P0 d 21 13 L st h
theorem x21_15 (d : Nat) (L st : List Value) (h : gd_H) : go gd_P0 d 21 15 L st h = gs gd_P0 d 21 15 L (i_ild 8 17 L st h) := go_eq gd_P0 d 21 15 L st h
theorem x21_17 (d : Nat) (L st : List Value) (h : gd_H) : go gd_P0 d 21 17 L st h = gs gd_P0 d 21 17 L (i_cV 66 8 1 20 L st h) := go_eq gd_P0 d 21 17 L st h
theorem x21_20 (d : Nat) (L st : List Value) (h : gd_H) : go gd_P0 d 21 20 L st h = gs gd_P0 d 21 20 L (i_msk [false, false, false, false, false, false, false, false, false, false, false] (i_i2l 21) L st h) := go_eq gd_P0 d 21 20 L st h
theorem x21_21 (d : Nat) (L st : List Value) (h : gd_H) : go gd_P0 d 21 21 L st h = gs gd_P0 d 21 21 L (i_astJ 22 L st h) := go_eq gd_P0 d 21 21 L st h
theorem x21_22 (d : Nat) (L st : List Value) (h : gd_H) : go gd_P0 d 21 22 L st h = gs gd_P0 d 21 22 L (i_goto 29 L st h) := go_eq gd_P0 d 21 22 L st h
theorem x21_25 (d : Nat) (L st : List Value) (h : gd_H) : go gd_P0 d 21 25 L st h = gs gd_P0 d 21 25 L (i_msk [false, false, false, false, false, false, false, false, false, false, false] (i_ast 10 27) L st h) := go_eq gd_P0 d 21 25 L st h
theorem x21_27 (d : Nat) (L st : List Value) (h : gd_H) : go gd_P0 d 21 27 L st h = gs gd_P0 d 21 27 L (i_psh (.int 1) 28 L st h) := go_eq gd_P0 d 21 27 L st h
theorem x21_28 (d : Nat) (L st : List Value) (h : gd_H) : go gd_P0 d 21 28 L st h = gs gd_P0 d 21 28 L (i_iret L st h) := go_eq gd_P0 d 21 28 L st h
theorem x21_29 (d : Nat) (L st : List Value) (h : gd_H) : go gd_P0 d 21 29 L st h = gs gd_P0 d 21 29 L (i_psh (.int 0) 30 L st h) := go_eq gd_P0 d 21 29 L st h
theorem x21_30 (d : Nat) (L st : List Value) (h : gd_H) : go gd_P0 d 21 30 L st h = gs gd_P0 d 21 30 L (i_iret L st h) := go_eq gd_P0 d 21 30 L st h
theorem s21_0 (d : Nat) (h : gd_H) (v0 : Nat) (v1 : Int32) (v2 : Int32) (v3 : Int32) (v4 : Int32) (v5 : Int32) (v6 : Int32) (v7 : Int32) (v8 : Int32) (v9 : Nat) : go gd_P0 d 21 0 [.ref v0, .int v1, .int v2, .int v3, .int v4, .int v5, .int v6, .int v7, .int v8, .ref v9, .null] [] h =
    if gT h v0 = 1 then gc gd_P0 d 21 17 20 [.ref v0, .int v1, .int v2, .int v3, .int v4, .int v5, .int v6, .int v7, .int v8, .ref v9, .null] [.int 0, .ref v9] (run gd_P0 d 66 [.ref v0, .int v1, .int v2, .int v3, .int v4, .int v5, .int v6, .int v7, .int v8] h) else none :=
  (x21_0 ..).trans ((x21_2 ..).trans ((x21_3 ..).trans ((x21_4 ..).trans ((x21_5 ..).trans ((x21_6 ..).trans ((x21_7 ..).trans ((x21_9 ..).trans ((x21_11 ..).trans ((x21_13 ..).trans ((x21_15 ..).trans ((x21_17 ..).trans ((gs_if ..).trans ((ia9 (by simp)).trans (ic9 rfl rfl))))))))))))))
theorem s21_20 (d : Nat) (h : gd_H) (w0 : Value) (w1 : Value) (w2 : Value) (w3 : Value) (w4 : Value) (w5 : Value) (w6 : Value) (w7 : Value) (w8 : Value) (w9 : Value) (w10 : Value) (z0 : Int32) (z1 : Int32) (z2 : Nat) : go gd_P0 d 21 20 [w0, w1, w2, w3, w4, w5, w6, w7, w8, w9, w10] [.int z0, .int z1, .ref z2] h =
    if gT h z2 = 34 ∧ ¬ (z1 < 0 ∨ gL h z2 ≤ Int32.toNatClampNeg z1) then some (.inl (some (.int 0)), (wJ h (up1 (gJ h) z2 (Int32.toNatClampNeg z1) (Int32.toInt64 z0)))) else none :=
  (x21_20 ..).trans ((x21_21 ..).trans ((gs_if ..).trans (ic9 ((x21_22 ..).trans ((x21_29 ..).trans ((x21_30 ..)))) rfl)))
theorem s21_25 (d : Nat) (h : gd_H) (w0 : Value) (w1 : Value) (w2 : Value) (w3 : Value) (w4 : Value) (w5 : Value) (w6 : Value) (w7 : Value) (w8 : Value) (w9 : Value) (w10 : Value) (z0 : Nat) : go gd_P0 d 21 25 [w0, w1, w2, w3, w4, w5, w6, w7, w8, w9, w10] [.ref z0] h =
    some (.inl (some (.int 1)), h) :=
  (x21_25 ..).trans ((x21_27 ..).trans ((x21_28 ..)))
theorem r21 (d : Nat) (h : gd_H) (v0 : Nat) (v1 : Int32) (v2 : Int32) (v3 : Int32) (v4 : Int32) (v5 : Int32) (v6 : Int32) (v7 : Int32) (v8 : Int32) (v9 : Nat) : run gd_P0 (d + 1) 21 [.ref v0, .int v1, .int v2, .int v3, .int v4, .int v5, .int v6, .int v7, .int v8, .ref v9] h = go gd_P0 d 21 0 [.ref v0, .int v1, .int v2, .int v3, .int v4, .int v5, .int v6, .int v7, .int v8, .ref v9, .null] [] h := run_succ gd_P0 d 21 [.ref v0, .int v1, .int v2, .int v3, .int v4, .int v5, .int v6, .int v7, .int v8, .ref v9] h (Nat.le_of_ble_eq_true rfl)
theorem x22_0 (d : Nat) (L st : List Value) (h : gd_H) : go gd_P0 d 22 0 L st h = gs gd_P0 d 22 0 L (i_ald 3 1 L st h) := go_eq gd_P0 d 22 0 L st h
theorem x22_1 (d : Nat) (L st : List Value) (h : gd_H) : go gd_P0 d 22 1 L st h = gs gd_P0 d 22 1 L (i_psh (.int 0) 2 L st h) := go_eq gd_P0 d 22 1 L st h
theorem x22_2 (d : Nat) (L st : List Value) (h : gd_H) : go gd_P0 d 22 2 L st h = gs gd_P0 d 22 2 L (i_ald 0 3 L st h) := go_eq gd_P0 d 22 2 L st h
theorem x22_3 (d : Nat) (L st : List Value) (h : gd_H) : go gd_P0 d 22 3 L st h = gs gd_P0 d 22 3 L (i_ild 1 4 L st h) := go_eq gd_P0 d 22 3 L st h
theorem x22_4 (d : Nat) (L st : List Value) (h : gd_H) : go gd_P0 d 22 4 L st h = gs gd_P0 d 22 4 L (i_ild 2 5 L st h) := go_eq gd_P0 d 22 4 L st h
theorem x22_5 (d : Nat) (L st : List Value) (h : gd_H) : go gd_P0 d 22 5 L st h = gs gd_P0 d 22 5 L (i_cV 67 2 1 8 L st h) := go_eq gd_P0 d 22 5 L st h
theorem x22_8 (d : Nat) (L st : List Value) (h : gd_H) : go gd_P0 d 22 8 L st h = gs gd_P0 d 22 8 L (i_msk [false, false, false, false, false] (i_i2l 9) L st h) := go_eq gd_P0 d 22 8 L st h
theorem x22_9 (d : Nat) (L st : List Value) (h : gd_H) : go gd_P0 d 22 9 L st h = gs gd_P0 d 22 9 L (i_astJ 10 L st h) := go_eq gd_P0 d 22 9 L st h
theorem x22_10 (d : Nat) (L st : List Value) (h : gd_H) : go gd_P0 d 22 10 L st h = gs gd_P0 d 22 10 L (i_goto 17 L st h) := go_eq gd_P0 d 22 10 L st h
theorem x22_13 (d : Nat) (L st : List Value) (h : gd_H) : go gd_P0 d 22 13 L st h = gs gd_P0 d 22 13 L (i_msk [false, false, false, false, false] (i_ast 4 15) L st h) := go_eq gd_P0 d 22 13 L st h
theorem x22_15 (d : Nat) (L st : List Value) (h : gd_H) : go gd_P0 d 22 15 L st h = gs gd_P0 d 22 15 L (i_psh (.int 1) 16 L st h) := go_eq gd_P0 d 22 15 L st h
theorem x22_16 (d : Nat) (L st : List Value) (h : gd_H) : go gd_P0 d 22 16 L st h = gs gd_P0 d 22 16 L (i_iret L st h) := go_eq gd_P0 d 22 16 L st h
theorem x22_17 (d : Nat) (L st : List Value) (h : gd_H) : go gd_P0 d 22 17 L st h = gs gd_P0 d 22 17 L (i_psh (.int 0) 18 L st h) := go_eq gd_P0 d 22 17 L st h
theorem x22_18 (d : Nat) (L st : List Value) (h : gd_H) : go gd_P0 d 22 18 L st h = gs gd_P0 d 22 18 L (i_iret L st h) := go_eq gd_P0 d 22 18 L st h
theorem s22_0 (d : Nat) (h : gd_H) (v0 : Nat) (v1 : Int32) (v2 : Int32) (v3 : Nat) : go gd_P0 d 22 0 [.ref v0, .int v1, .int v2, .ref v3, .null] [] h =
    if gT h v0 = 1 then gc gd_P0 d 22 5 8 [.ref v0, .int v1, .int v2, .ref v3, .null] [.int 0, .ref v3] (run gd_P0 d 67 [.ref v0, .int v1, .int v2] h) else none :=
  (x22_0 ..).trans ((x22_1 ..).trans ((x22_2 ..).trans ((x22_3 ..).trans ((x22_4 ..).trans ((x22_5 ..).trans ((gs_if ..).trans ((ia9 (by simp)).trans (ic9 rfl rfl))))))))
theorem s22_8 (d : Nat) (h : gd_H) (w0 : Value) (w1 : Value) (w2 : Value) (w3 : Value) (w4 : Value) (z0 : Int32) (z1 : Int32) (z2 : Nat) : go gd_P0 d 22 8 [w0, w1, w2, w3, w4] [.int z0, .int z1, .ref z2] h =
    if gT h z2 = 34 ∧ ¬ (z1 < 0 ∨ gL h z2 ≤ Int32.toNatClampNeg z1) then some (.inl (some (.int 0)), (wJ h (up1 (gJ h) z2 (Int32.toNatClampNeg z1) (Int32.toInt64 z0)))) else none :=
  (x22_8 ..).trans ((x22_9 ..).trans ((gs_if ..).trans (ic9 ((x22_10 ..).trans ((x22_17 ..).trans ((x22_18 ..)))) rfl)))
theorem s22_13 (d : Nat) (h : gd_H) (w0 : Value) (w1 : Value) (w2 : Value) (w3 : Value) (w4 : Value) (z0 : Nat) : go gd_P0 d 22 13 [w0, w1, w2, w3, w4] [.ref z0] h =
    some (.inl (some (.int 1)), h) :=
  (x22_13 ..).trans ((x22_15 ..).trans ((x22_16 ..)))
theorem r22 (d : Nat) (h : gd_H) (v0 : Nat) (v1 : Int32) (v2 : Int32) (v3 : Nat) : run gd_P0 (d + 1) 22 [.ref v0, .int v1, .int v2, .ref v3] h = go gd_P0 d 22 0 [.ref v0, .int v1, .int v2, .ref v3, .null] [] h := run_succ gd_P0 d 22 [.ref v0, .int v1, .int v2, .ref v3] h (Nat.le_of_ble_eq_true rfl)
theorem x23_0 (d : Nat) (L st : List Value) (h : gd_H) : go gd_P0 d 23 0 L st h = gs gd_P0 d 23 0 L (i_ald 3 1 L st h) := go_eq gd_P0 d 23 0 L st h
theorem x23_1 (d : Nat) (L st : List Value) (h : gd_H) : go gd_P0 d 23 1 L st h = gs gd_P0 d 23 1 L (i_psh (.int 0) 2 L st h) := go_eq gd_P0 d 23 1 L st h
theorem x23_2 (d : Nat) (L st : List Value) (h : gd_H) : go gd_P0 d 23 2 L st h = gs gd_P0 d 23 2 L (i_ald 0 3 L st h) := go_eq gd_P0 d 23 2 L st h
theorem x23_3 (d : Nat) (L st : List Value) (h : gd_H) : go gd_P0 d 23 3 L st h = gs gd_P0 d 23 3 L (i_ild 1 4 L st h) := go_eq gd_P0 d 23 3 L st h
theorem x23_4 (d : Nat) (L st : List Value) (h : gd_H) : go gd_P0 d 23 4 L st h = gs gd_P0 d 23 4 L (i_ild 2 5 L st h) := go_eq gd_P0 d 23 4 L st h
theorem x23_5 (d : Nat) (L st : List Value) (h : gd_H) : go gd_P0 d 23 5 L st h = gs gd_P0 d 23 5 L (i_cV 69 2 1 8 L st h) := go_eq gd_P0 d 23 5 L st h
theorem x23_8 (d : Nat) (L st : List Value) (h : gd_H) : go gd_P0 d 23 8 L st h = gs gd_P0 d 23 8 L (i_msk [false, false, false, false, false] (i_i2l 9) L st h) := go_eq gd_P0 d 23 8 L st h
theorem x23_9 (d : Nat) (L st : List Value) (h : gd_H) : go gd_P0 d 23 9 L st h = gs gd_P0 d 23 9 L (i_astJ 10 L st h) := go_eq gd_P0 d 23 9 L st h
theorem x23_10 (d : Nat) (L st : List Value) (h : gd_H) : go gd_P0 d 23 10 L st h = gs gd_P0 d 23 10 L (i_goto 21 L st h) := go_eq gd_P0 d 23 10 L st h
theorem x23_13 (d : Nat) (L st : List Value) (h : gd_H) : go gd_P0 d 23 13 L st h = gs gd_P0 d 23 13 L (i_msk [false, false, false, false, false] (i_ast 4 15) L st h) := go_eq gd_P0 d 23 13 L st h
theorem x23_15 (d : Nat) (L st : List Value) (h : gd_H) : go gd_P0 d 23 15 L st h = gs gd_P0 d 23 15 L (i_psh (.int 1) 16 L st h) := go_eq gd_P0 d 23 15 L st h
theorem x23_16 (d : Nat) (L st : List Value) (h : gd_H) : go gd_P0 d 23 16 L st h = gs gd_P0 d 23 16 L (i_iret L st h) := go_eq gd_P0 d 23 16 L st h
theorem x23_17 (d : Nat) (L st : List Value) (h : gd_H) : go gd_P0 d 23 17 L st h = gs gd_P0 d 23 17 L (i_msk [false, false, false, false, false] (i_ast 4 19) L st h) := go_eq gd_P0 d 23 17 L st h
theorem x23_19 (d : Nat) (L st : List Value) (h : gd_H) : go gd_P0 d 23 19 L st h = gs gd_P0 d 23 19 L (i_psh (.int 2) 20 L st h) := go_eq gd_P0 d 23 19 L st h
theorem x23_20 (d : Nat) (L st : List Value) (h : gd_H) : go gd_P0 d 23 20 L st h = gs gd_P0 d 23 20 L (i_iret L st h) := go_eq gd_P0 d 23 20 L st h
theorem x23_21 (d : Nat) (L st : List Value) (h : gd_H) : go gd_P0 d 23 21 L st h = gs gd_P0 d 23 21 L (i_psh (.int 0) 22 L st h) := go_eq gd_P0 d 23 21 L st h
theorem x23_22 (d : Nat) (L st : List Value) (h : gd_H) : go gd_P0 d 23 22 L st h = gs gd_P0 d 23 22 L (i_iret L st h) := go_eq gd_P0 d 23 22 L st h
theorem s23_0 (d : Nat) (h : gd_H) (v0 : Nat) (v1 : Int32) (v2 : Int32) (v3 : Nat) : go gd_P0 d 23 0 [.ref v0, .int v1, .int v2, .ref v3, .null] [] h =
    if gT h v0 = 1 then gc gd_P0 d 23 5 8 [.ref v0, .int v1, .int v2, .ref v3, .null] [.int 0, .ref v3] (run gd_P0 d 69 [.ref v0, .int v1, .int v2] h) else none :=
  (x23_0 ..).trans ((x23_1 ..).trans ((x23_2 ..).trans ((x23_3 ..).trans ((x23_4 ..).trans ((x23_5 ..).trans ((gs_if ..).trans ((ia9 (by simp)).trans (ic9 rfl rfl))))))))
theorem s23_8 (d : Nat) (h : gd_H) (w0 : Value) (w1 : Value) (w2 : Value) (w3 : Value) (w4 : Value) (z0 : Int32) (z1 : Int32) (z2 : Nat) : go gd_P0 d 23 8 [w0, w1, w2, w3, w4] [.int z0, .int z1, .ref z2] h =
    if gT h z2 = 34 ∧ ¬ (z1 < 0 ∨ gL h z2 ≤ Int32.toNatClampNeg z1) then some (.inl (some (.int 0)), (wJ h (up1 (gJ h) z2 (Int32.toNatClampNeg z1) (Int32.toInt64 z0)))) else none :=
  (x23_8 ..).trans ((x23_9 ..).trans ((gs_if ..).trans (ic9 ((x23_10 ..).trans ((x23_21 ..).trans ((x23_22 ..)))) rfl)))
theorem s23_13 (d : Nat) (h : gd_H) (w0 : Value) (w1 : Value) (w2 : Value) (w3 : Value) (w4 : Value) (z0 : Nat) : go gd_P0 d 23 13 [w0, w1, w2, w3, w4] [.ref z0] h =
    some (.inl (some (.int 1)), h) :=
  (x23_13 ..).trans ((x23_15 ..).trans ((x23_16 ..)))
theorem s23_17 (d : Nat) (h : gd_H) (w0 : Value) (w1 : Value) (w2 : Value) (w3 : Value) (w4 : Value) (z0 : Nat) : go gd_P0 d 23 17 [w0, w1, w2, w3, w4] [.ref z0] h =
    some (.inl (some (.int 2)), h) :=
  (x23_17 ..).trans ((x23_19 ..).trans ((x23_20 ..)))
theorem r23 (d : Nat) (h : gd_H) (v0 : Nat) (v1 : Int32) (v2 : Int32) (v3 : Nat) : run gd_P0 (d + 1) 23 [.ref v0, .int v1, .int v2, .ref v3] h = go gd_P0 d 23 0 [.ref v0, .int v1, .int v2, .ref v3, .null] [] h := run_succ gd_P0 d 23 [.ref v0, .int v1, .int v2, .ref v3] h (Nat.le_of_ble_eq_true rfl)
theorem x24_0 (d : Nat) (L st : List Value) (h : gd_H) : go gd_P0 d 24 0 L st h = gs gd_P0 d 24 0 L (i_ald 3 1 L st h) := go_eq gd_P0 d 24 0 L st h
theorem x24_1 (d : Nat) (L st : List Value) (h : gd_H) : go gd_P0 d 24 1 L st h = gs gd_P0 d 24 1 L (i_psh (.int 0) 2 L st h) := go_eq gd_P0 d 24 1 L st h
theorem x24_2 (d : Nat) (L st : List Value) (h : gd_H) : go gd_P0 d 24 2 L st h = gs gd_P0 d 24 2 L (i_ald 0 3 L st h) := go_eq gd_P0 d 24 2 L st h
theorem x24_3 (d : Nat) (L st : List Value) (h : gd_H) : go gd_P0 d 24 3 L st h = gs gd_P0 d 24 3 L (i_ild 1 4 L st h) := go_eq gd_P0 d 24 3 L st h
theorem x24_4 (d : Nat) (L st : List Value) (h : gd_H) : go gd_P0 d 24 4 L st h = gs gd_P0 d 24 4 L (i_ild 2 5 L st h) := go_eq gd_P0 d 24 4 L st h
theorem x24_5 (d : Nat) (L st : List Value) (h : gd_H) : go gd_P0 d 24 5 L st h = gs gd_P0 d 24 5 L (i_cV 70 2 1 8 L st h) := go_eq gd_P0 d 24 5 L st h
theorem x24_8 (d : Nat) (L st : List Value) (h : gd_H) : go gd_P0 d 24 8 L st h = gs gd_P0 d 24 8 L (i_msk [false, false, false, false, false] (i_i2l 9) L st h) := go_eq gd_P0 d 24 8 L st h
theorem x24_9 (d : Nat) (L st : List Value) (h : gd_H) : go gd_P0 d 24 9 L st h = gs gd_P0 d 24 9 L (i_astJ 10 L st h) := go_eq gd_P0 d 24 9 L st h
theorem x24_10 (d : Nat) (L st : List Value) (h : gd_H) : go gd_P0 d 24 10 L st h = gs gd_P0 d 24 10 L (i_goto 21 L st h) := go_eq gd_P0 d 24 10 L st h
theorem x24_13 (d : Nat) (L st : List Value) (h : gd_H) : go gd_P0 d 24 13 L st h = gs gd_P0 d 24 13 L (i_msk [false, false, false, false, false] (i_ast 4 15) L st h) := go_eq gd_P0 d 24 13 L st h
theorem x24_15 (d : Nat) (L st : List Value) (h : gd_H) : go gd_P0 d 24 15 L st h = gs gd_P0 d 24 15 L (i_psh (.int 1) 16 L st h) := go_eq gd_P0 d 24 15 L st h
theorem x24_16 (d : Nat) (L st : List Value) (h : gd_H) : go gd_P0 d 24 16 L st h = gs gd_P0 d 24 16 L (i_iret L st h) := go_eq gd_P0 d 24 16 L st h
theorem x24_17 (d : Nat) (L st : List Value) (h : gd_H) : go gd_P0 d 24 17 L st h = gs gd_P0 d 24 17 L (i_msk [false, false, false, false, false] (i_ast 4 19) L st h) := go_eq gd_P0 d 24 17 L st h
theorem x24_19 (d : Nat) (L st : List Value) (h : gd_H) : go gd_P0 d 24 19 L st h = gs gd_P0 d 24 19 L (i_psh (.int 2) 20 L st h) := go_eq gd_P0 d 24 19 L st h
theorem x24_20 (d : Nat) (L st : List Value) (h : gd_H) : go gd_P0 d 24 20 L st h = gs gd_P0 d 24 20 L (i_iret L st h) := go_eq gd_P0 d 24 20 L st h
theorem x24_21 (d : Nat) (L st : List Value) (h : gd_H) : go gd_P0 d 24 21 L st h = gs gd_P0 d 24 21 L (i_psh (.int 0) 22 L st h) := go_eq gd_P0 d 24 21 L st h
theorem x24_22 (d : Nat) (L st : List Value) (h : gd_H) : go gd_P0 d 24 22 L st h = gs gd_P0 d 24 22 L (i_iret L st h) := go_eq gd_P0 d 24 22 L st h
theorem s24_0 (d : Nat) (h : gd_H) (v0 : Nat) (v1 : Int32) (v2 : Int32) (v3 : Nat) : go gd_P0 d 24 0 [.ref v0, .int v1, .int v2, .ref v3, .null] [] h =
    if gT h v0 = 1 then gc gd_P0 d 24 5 8 [.ref v0, .int v1, .int v2, .ref v3, .null] [.int 0, .ref v3] (run gd_P0 d 70 [.ref v0, .int v1, .int v2] h) else none :=
  (x24_0 ..).trans ((x24_1 ..).trans ((x24_2 ..).trans ((x24_3 ..).trans ((x24_4 ..).trans ((x24_5 ..).trans ((gs_if ..).trans ((ia9 (by simp)).trans (ic9 rfl rfl))))))))
theorem s24_8 (d : Nat) (h : gd_H) (w0 : Value) (w1 : Value) (w2 : Value) (w3 : Value) (w4 : Value) (z0 : Int32) (z1 : Int32) (z2 : Nat) : go gd_P0 d 24 8 [w0, w1, w2, w3, w4] [.int z0, .int z1, .ref z2] h =
    if gT h z2 = 34 ∧ ¬ (z1 < 0 ∨ gL h z2 ≤ Int32.toNatClampNeg z1) then some (.inl (some (.int 0)), (wJ h (up1 (gJ h) z2 (Int32.toNatClampNeg z1) (Int32.toInt64 z0)))) else none :=
  (x24_8 ..).trans ((x24_9 ..).trans ((gs_if ..).trans (ic9 ((x24_10 ..).trans ((x24_21 ..).trans ((x24_22 ..)))) rfl)))
theorem s24_13 (d : Nat) (h : gd_H) (w0 : Value) (w1 : Value) (w2 : Value) (w3 : Value) (w4 : Value) (z0 : Nat) : go gd_P0 d 24 13 [w0, w1, w2, w3, w4] [.ref z0] h =
    some (.inl (some (.int 1)), h) :=
  (x24_13 ..).trans ((x24_15 ..).trans ((x24_16 ..)))
theorem s24_17 (d : Nat) (h : gd_H) (w0 : Value) (w1 : Value) (w2 : Value) (w3 : Value) (w4 : Value) (z0 : Nat) : go gd_P0 d 24 17 [w0, w1, w2, w3, w4] [.ref z0] h =
    some (.inl (some (.int 2)), h) :=
  (x24_17 ..).trans ((x24_19 ..).trans ((x24_20 ..)))
theorem r24 (d : Nat) (h : gd_H) (v0 : Nat) (v1 : Int32) (v2 : Int32) (v3 : Nat) : run gd_P0 (d + 1) 24 [.ref v0, .int v1, .int v2, .ref v3] h = go gd_P0 d 24 0 [.ref v0, .int v1, .int v2, .ref v3, .null] [] h := run_succ gd_P0 d 24 [.ref v0, .int v1, .int v2, .ref v3] h (Nat.le_of_ble_eq_true rfl)
theorem x25_0 (d : Nat) (L st : List Value) (h : gd_H) : go gd_P0 d 25 0 L st h = gs gd_P0 d 25 0 L (i_ald 2 1 L st h) := go_eq gd_P0 d 25 0 L st h
theorem x25_1 (d : Nat) (L st : List Value) (h : gd_H) : go gd_P0 d 25 1 L st h = gs gd_P0 d 25 1 L (i_psh (.int 0) 2 L st h) := go_eq gd_P0 d 25 1 L st h
theorem x25_2 (d : Nat) (L st : List Value) (h : gd_H) : go gd_P0 d 25 2 L st h = gs gd_P0 d 25 2 L (i_ald 0 3 L st h) := go_eq gd_P0 d 25 2 L st h
theorem x25_3 (d : Nat) (L st : List Value) (h : gd_H) : go gd_P0 d 25 3 L st h = gs gd_P0 d 25 3 L (i_ild 1 4 L st h) := go_eq gd_P0 d 25 3 L st h
theorem x25_4 (d : Nat) (L st : List Value) (h : gd_H) : go gd_P0 d 25 4 L st h = gs gd_P0 d 25 4 L (i_cV 71 1 1 7 L st h) := go_eq gd_P0 d 25 4 L st h
theorem x25_7 (d : Nat) (L st : List Value) (h : gd_H) : go gd_P0 d 25 7 L st h = gs gd_P0 d 25 7 L (i_msk [false, false, false, false] (i_i2l 8) L st h) := go_eq gd_P0 d 25 7 L st h
theorem x25_8 (d : Nat) (L st : List Value) (h : gd_H) : go gd_P0 d 25 8 L st h = gs gd_P0 d 25 8 L (i_astJ 9 L st h) := go_eq gd_P0 d 25 8 L st h
theorem x25_9 (d : Nat) (L st : List Value) (h : gd_H) : go gd_P0 d 25 9 L st h = gs gd_P0 d 25 9 L (i_goto 15 L st h) := go_eq gd_P0 d 25 9 L st h
theorem x25_12 (d : Nat) (L st : List Value) (h : gd_H) : go gd_P0 d 25 12 L st h = gs gd_P0 d 25 12 L (i_msk [false, false, false, false] (i_ast 3 13) L st h) := go_eq gd_P0 d 25 12 L st h
theorem x25_13 (d : Nat) (L st : List Value) (h : gd_H) : go gd_P0 d 25 13 L st h = gs gd_P0 d 25 13 L (i_psh (.int 1) 14 L st h) := go_eq gd_P0 d 25 13 L st h
theorem x25_14 (d : Nat) (L st : List Value) (h : gd_H) : go gd_P0 d 25 14 L st h = gs gd_P0 d 25 14 L (i_iret L st h) := go_eq gd_P0 d 25 14 L st h
theorem x25_15 (d : Nat) (L st : List Value) (h : gd_H) : go gd_P0 d 25 15 L st h = gs gd_P0 d 25 15 L (i_psh (.int 0) 16 L st h) := go_eq gd_P0 d 25 15 L st h
theorem x25_16 (d : Nat) (L st : List Value) (h : gd_H) : go gd_P0 d 25 16 L st h = gs gd_P0 d 25 16 L (i_iret L st h) := go_eq gd_P0 d 25 16 L st h
theorem s25_0 (d : Nat) (h : gd_H) (v0 : Nat) (v1 : Int32) (v2 : Nat) : go gd_P0 d 25 0 [.ref v0, .int v1, .ref v2, .null] [] h =
    if gT h v0 = 1 then gc gd_P0 d 25 4 7 [.ref v0, .int v1, .ref v2, .null] [.int 0, .ref v2] (run gd_P0 d 71 [.ref v0, .int v1] h) else none :=
  (x25_0 ..).trans ((x25_1 ..).trans ((x25_2 ..).trans ((x25_3 ..).trans ((x25_4 ..).trans ((gs_if ..).trans ((ia9 (by simp)).trans (ic9 rfl rfl)))))))
theorem s25_7 (d : Nat) (h : gd_H) (w0 : Value) (w1 : Value) (w2 : Value) (w3 : Value) (z0 : Int32) (z1 : Int32) (z2 : Nat) : go gd_P0 d 25 7 [w0, w1, w2, w3] [.int z0, .int z1, .ref z2] h =
    if gT h z2 = 34 ∧ ¬ (z1 < 0 ∨ gL h z2 ≤ Int32.toNatClampNeg z1) then some (.inl (some (.int 0)), (wJ h (up1 (gJ h) z2 (Int32.toNatClampNeg z1) (Int32.toInt64 z0)))) else none :=
  (x25_7 ..).trans ((x25_8 ..).trans ((gs_if ..).trans (ic9 ((x25_9 ..).trans ((x25_15 ..).trans ((x25_16 ..)))) rfl)))
theorem s25_12 (d : Nat) (h : gd_H) (w0 : Value) (w1 : Value) (w2 : Value) (w3 : Value) (z0 : Nat) : go gd_P0 d 25 12 [w0, w1, w2, w3] [.ref z0] h =
    some (.inl (some (.int 1)), h) :=
  (x25_12 ..).trans ((x25_13 ..).trans ((x25_14 ..)))
theorem r25 (d : Nat) (h : gd_H) (v0 : Nat) (v1 : Int32) (v2 : Nat) : run gd_P0 (d + 1) 25 [.ref v0, .int v1, .ref v2] h = go gd_P0 d 25 0 [.ref v0, .int v1, .ref v2, .null] [] h := run_succ gd_P0 d 25 [.ref v0, .int v1, .ref v2] h (Nat.le_of_ble_eq_true rfl)
theorem x26_0 (d : Nat) (L st : List Value) (h : gd_H) : go gd_P0 d 26 0 L st h = gs gd_P0 d 26 0 L (i_ald 2 1 L st h) := go_eq gd_P0 d 26 0 L st h
theorem x26_1 (d : Nat) (L st : List Value) (h : gd_H) : go gd_P0 d 26 1 L st h = gs gd_P0 d 26 1 L (i_psh (.int 0) 2 L st h) := go_eq gd_P0 d 26 1 L st h
theorem x26_2 (d : Nat) (L st : List Value) (h : gd_H) : go gd_P0 d 26 2 L st h = gs gd_P0 d 26 2 L (i_ald 0 3 L st h) := go_eq gd_P0 d 26 2 L st h
theorem x26_3 (d : Nat) (L st : List Value) (h : gd_H) : go gd_P0 d 26 3 L st h = gs gd_P0 d 26 3 L (i_ild 1 4 L st h) := go_eq gd_P0 d 26 3 L st h
theorem x26_4 (d : Nat) (L st : List Value) (h : gd_H) : go gd_P0 d 26 4 L st h = gs gd_P0 d 26 4 L (i_cV 72 1 1 7 L st h) := go_eq gd_P0 d 26 4 L st h
theorem x26_7 (d : Nat) (L st : List Value) (h : gd_H) : go gd_P0 d 26 7 L st h = gs gd_P0 d 26 7 L (i_msk [false, false, false, false] (i_i2l 8) L st h) := go_eq gd_P0 d 26 7 L st h
theorem x26_8 (d : Nat) (L st : List Value) (h : gd_H) : go gd_P0 d 26 8 L st h = gs gd_P0 d 26 8 L (i_astJ 9 L st h) := go_eq gd_P0 d 26 8 L st h
theorem x26_9 (d : Nat) (L st : List Value) (h : gd_H) : go gd_P0 d 26 9 L st h = gs gd_P0 d 26 9 L (i_goto 15 L st h) := go_eq gd_P0 d 26 9 L st h
theorem x26_12 (d : Nat) (L st : List Value) (h : gd_H) : go gd_P0 d 26 12 L st h = gs gd_P0 d 26 12 L (i_msk [false, false, false, false] (i_ast 3 13) L st h) := go_eq gd_P0 d 26 12 L st h
theorem x26_13 (d : Nat) (L st : List Value) (h : gd_H) : go gd_P0 d 26 13 L st h = gs gd_P0 d 26 13 L (i_psh (.int 1) 14 L st h) := go_eq gd_P0 d 26 13 L st h
theorem x26_14 (d : Nat) (L st : List Value) (h : gd_H) : go gd_P0 d 26 14 L st h = gs gd_P0 d 26 14 L (i_iret L st h) := go_eq gd_P0 d 26 14 L st h
theorem x26_15 (d : Nat) (L st : List Value) (h : gd_H) : go gd_P0 d 26 15 L st h = gs gd_P0 d 26 15 L (i_psh (.int 0) 16 L st h) := go_eq gd_P0 d 26 15 L st h
theorem x26_16 (d : Nat) (L st : List Value) (h : gd_H) : go gd_P0 d 26 16 L st h = gs gd_P0 d 26 16 L (i_iret L st h) := go_eq gd_P0 d 26 16 L st h
theorem s26_0 (d : Nat) (h : gd_H) (v0 : Nat) (v1 : Int32) (v2 : Nat) : go gd_P0 d 26 0 [.ref v0, .int v1, .ref v2, .null] [] h =
    if gT h v0 = 1 then gc gd_P0 d 26 4 7 [.ref v0, .int v1, .ref v2, .null] [.int 0, .ref v2] (run gd_P0 d 72 [.ref v0, .int v1] h) else none :=
  (x26_0 ..).trans ((x26_1 ..).trans ((x26_2 ..).trans ((x26_3 ..).trans ((x26_4 ..).trans ((gs_if ..).trans ((ia9 (by simp)).trans (ic9 rfl rfl)))))))
theorem s26_7 (d : Nat) (h : gd_H) (w0 : Value) (w1 : Value) (w2 : Value) (w3 : Value) (z0 : Int32) (z1 : Int32) (z2 : Nat) : go gd_P0 d 26 7 [w0, w1, w2, w3] [.int z0, .int z1, .ref z2] h =
    if gT h z2 = 34 ∧ ¬ (z1 < 0 ∨ gL h z2 ≤ Int32.toNatClampNeg z1) then some (.inl (some (.int 0)), (wJ h (up1 (gJ h) z2 (Int32.toNatClampNeg z1) (Int32.toInt64 z0)))) else none :=
  (x26_7 ..).trans ((x26_8 ..).trans ((gs_if ..).trans (ic9 ((x26_9 ..).trans ((x26_15 ..).trans ((x26_16 ..)))) rfl)))
theorem s26_12 (d : Nat) (h : gd_H) (w0 : Value) (w1 : Value) (w2 : Value) (w3 : Value) (z0 : Nat) : go gd_P0 d 26 12 [w0, w1, w2, w3] [.ref z0] h =
    some (.inl (some (.int 1)), h) :=
  (x26_12 ..).trans ((x26_13 ..).trans ((x26_14 ..)))
theorem r26 (d : Nat) (h : gd_H) (v0 : Nat) (v1 : Int32) (v2 : Nat) : run gd_P0 (d + 1) 26 [.ref v0, .int v1, .ref v2] h = go gd_P0 d 26 0 [.ref v0, .int v1, .ref v2, .null] [] h := run_succ gd_P0 d 26 [.ref v0, .int v1, .ref v2] h (Nat.le_of_ble_eq_true rfl)
theorem x27_0 (d : Nat) (L st : List Value) (h : gd_H) : go gd_P0 d 27 0 L st h = gs gd_P0 d 27 0 L (i_ald 3 1 L st h) := go_eq gd_P0 d 27 0 L st h
theorem x27_1 (d : Nat) (L st : List Value) (h : gd_H) : go gd_P0 d 27 1 L st h = gs gd_P0 d 27 1 L (i_psh (.int 0) 2 L st h) := go_eq gd_P0 d 27 1 L st h
theorem x27_2 (d : Nat) (L st : List Value) (h : gd_H) : go gd_P0 d 27 2 L st h = gs gd_P0 d 27 2 L (i_ald 0 3 L st h) := go_eq gd_P0 d 27 2 L st h
theorem x27_3 (d : Nat) (L st : List Value) (h : gd_H) : go gd_P0 d 27 3 L st h = gs gd_P0 d 27 3 L (i_ild 1 4 L st h) := go_eq gd_P0 d 27 3 L st h
theorem x27_4 (d : Nat) (L st : List Value) (h : gd_H) : go gd_P0 d 27 4 L st h = gs gd_P0 d 27 4 L (i_ild 2 5 L st h) := go_eq gd_P0 d 27 4 L st h
theorem x27_5 (d : Nat) (L st : List Value) (h : gd_H) : go gd_P0 d 27 5 L st h = gs gd_P0 d 27 5 L (i_cV 73 2 1 8 L st h) := go_eq gd_P0 d 27 5 L st h
theorem x27_8 (d : Nat) (L st : List Value) (h : gd_H) : go gd_P0 d 27 8 L st h = gs gd_P0 d 27 8 L (i_msk [false, false, false, false, false] (i_i2l 9) L st h) := go_eq gd_P0 d 27 8 L st h
theorem x27_9 (d : Nat) (L st : List Value) (h : gd_H) : go gd_P0 d 27 9 L st h = gs gd_P0 d 27 9 L (i_astJ 10 L st h) := go_eq gd_P0 d 27 9 L st h
theorem x27_10 (d : Nat) (L st : List Value) (h : gd_H) : go gd_P0 d 27 10 L st h = gs gd_P0 d 27 10 L (i_goto 21 L st h) := go_eq gd_P0 d 27 10 L st h
theorem x27_13 (d : Nat) (L st : List Value) (h : gd_H) : go gd_P0 d 27 13 L st h = gs gd_P0 d 27 13 L (i_msk [false, false, false, false, false] (i_ast 4 15) L st h) := go_eq gd_P0 d 27 13 L st h
theorem x27_15 (d : Nat) (L st : List Value) (h : gd_H) : go gd_P0 d 27 15 L st h = gs gd_P0 d 27 15 L (i_psh (.int 1) 16 L st h) := go_eq gd_P0 d 27 15 L st h
theorem x27_16 (d : Nat) (L st : List Value) (h : gd_H) : go gd_P0 d 27 16 L st h = gs gd_P0 d 27 16 L (i_iret L st h) := go_eq gd_P0 d 27 16 L st h
theorem x27_17 (d : Nat) (L st : List Value) (h : gd_H) : go gd_P0 d 27 17 L st h = gs gd_P0 d 27 17 L (i_msk [false, false, false, false, false] (i_ast 4 19) L st h) := go_eq gd_P0 d 27 17 L st h
theorem x27_19 (d : Nat) (L st : List Value) (h : gd_H) : go gd_P0 d 27 19 L st h = gs gd_P0 d 27 19 L (i_psh (.int 2) 20 L st h) := go_eq gd_P0 d 27 19 L st h
theorem x27_20 (d : Nat) (L st : List Value) (h : gd_H) : go gd_P0 d 27 20 L st h = gs gd_P0 d 27 20 L (i_iret L st h) := go_eq gd_P0 d 27 20 L st h
theorem x27_21 (d : Nat) (L st : List Value) (h : gd_H) : go gd_P0 d 27 21 L st h = gs gd_P0 d 27 21 L (i_psh (.int 0) 22 L st h) := go_eq gd_P0 d 27 21 L st h
theorem x27_22 (d : Nat) (L st : List Value) (h : gd_H) : go gd_P0 d 27 22 L st h = gs gd_P0 d 27 22 L (i_iret L st h) := go_eq gd_P0 d 27 22 L st h
theorem s27_0 (d : Nat) (h : gd_H) (v0 : Nat) (v1 : Int32) (v2 : Int32) (v3 : Nat) : go gd_P0 d 27 0 [.ref v0, .int v1, .int v2, .ref v3, .null] [] h =
    if gT h v0 = 1 then gc gd_P0 d 27 5 8 [.ref v0, .int v1, .int v2, .ref v3, .null] [.int 0, .ref v3] (run gd_P0 d 73 [.ref v0, .int v1, .int v2] h) else none :=
  (x27_0 ..).trans ((x27_1 ..).trans ((x27_2 ..).trans ((x27_3 ..).trans ((x27_4 ..).trans ((x27_5 ..).trans ((gs_if ..).trans ((ia9 (by simp)).trans (ic9 rfl rfl))))))))
theorem s27_8 (d : Nat) (h : gd_H) (w0 : Value) (w1 : Value) (w2 : Value) (w3 : Value) (w4 : Value) (z0 : Int32) (z1 : Int32) (z2 : Nat) : go gd_P0 d 27 8 [w0, w1, w2, w3, w4] [.int z0, .int z1, .ref z2] h =
    if gT h z2 = 34 ∧ ¬ (z1 < 0 ∨ gL h z2 ≤ Int32.toNatClampNeg z1) then some (.inl (some (.int 0)), (wJ h (up1 (gJ h) z2 (Int32.toNatClampNeg z1) (Int32.toInt64 z0)))) else none :=
  (x27_8 ..).trans ((x27_9 ..).trans ((gs_if ..).trans (ic9 ((x27_10 ..).trans ((x27_21 ..).trans ((x27_22 ..)))) rfl)))
theorem s27_13 (d : Nat) (h : gd_H) (w0 : Value) (w1 : Value) (w2 : Value) (w3 : Value) (w4 : Value) (z0 : Nat) : go gd_P0 d 27 13 [w0, w1, w2, w3, w4] [.ref z0] h =
    some (.inl (some (.int 1)), h) :=
  (x27_13 ..).trans ((x27_15 ..).trans ((x27_16 ..)))
theorem s27_17 (d : Nat) (h : gd_H) (w0 : Value) (w1 : Value) (w2 : Value) (w3 : Value) (w4 : Value) (z0 : Nat) : go gd_P0 d 27 17 [w0, w1, w2, w3, w4] [.ref z0] h =
    some (.inl (some (.int 2)), h) :=
  (x27_17 ..).trans ((x27_19 ..).trans ((x27_20 ..)))
theorem r27 (d : Nat) (h : gd_H) (v0 : Nat) (v1 : Int32) (v2 : Int32) (v3 : Nat) : run gd_P0 (d + 1) 27 [.ref v0, .int v1, .int v2, .ref v3] h = go gd_P0 d 27 0 [.ref v0, .int v1, .int v2, .ref v3, .null] [] h := run_succ gd_P0 d 27 [.ref v0, .int v1, .int v2, .ref v3] h (Nat.le_of_ble_eq_true rfl)
theorem x28_0 (d : Nat) (L st : List Value) (h : gd_H) : go gd_P0 d 28 0 L st h = gs gd_P0 d 28 0 L (i_ald 3 1 L st h) := go_eq gd_P0 d 28 0 L st h
theorem x28_1 (d : Nat) (L st : List Value) (h : gd_H) : go gd_P0 d 28 1 L st h = gs gd_P0 d 28 1 L (i_psh (.int 0) 2 L st h) := go_eq gd_P0 d 28 1 L st h
theorem x28_2 (d : Nat) (L st : List Value) (h : gd_H) : go gd_P0 d 28 2 L st h = gs gd_P0 d 28 2 L (i_ald 0 3 L st h) := go_eq gd_P0 d 28 2 L st h
theorem x28_3 (d : Nat) (L st : List Value) (h : gd_H) : go gd_P0 d 28 3 L st h = gs gd_P0 d 28 3 L (i_ild 1 4 L st h) := go_eq gd_P0 d 28 3 L st h
theorem x28_4 (d : Nat) (L st : List Value) (h : gd_H) : go gd_P0 d 28 4 L st h = gs gd_P0 d 28 4 L (i_ild 2 5 L st h) := go_eq gd_P0 d 28 4 L st h
theorem x28_5 (d : Nat) (L st : List Value) (h : gd_H) : go gd_P0 d 28 5 L st h = gs gd_P0 d 28 5 L (i_cV 75 2 1 8 L st h) := go_eq gd_P0 d 28 5 L st h
theorem x28_8 (d : Nat) (L st : List Value) (h : gd_H) : go gd_P0 d 28 8 L st h = gs gd_P0 d 28 8 L (i_msk [false, false, false, false, false] (i_i2l 9) L st h) := go_eq gd_P0 d 28 8 L st h
theorem x28_9 (d : Nat) (L st : List Value) (h : gd_H) : go gd_P0 d 28 9 L st h = gs gd_P0 d 28 9 L (i_astJ 10 L st h) := go_eq gd_P0 d 28 9 L st h
theorem x28_10 (d : Nat) (L st : List Value) (h : gd_H) : go gd_P0 d 28 10 L st h = gs gd_P0 d 28 10 L (i_goto 21 L st h) := go_eq gd_P0 d 28 10 L st h
theorem x28_13 (d : Nat) (L st : List Value) (h : gd_H) : go gd_P0 d 28 13 L st h = gs gd_P0 d 28 13 L (i_msk [false, false, false, false, false] (i_ast 4 15) L st h) := go_eq gd_P0 d 28 13 L st h
theorem x28_15 (d : Nat) (L st : List Value) (h : gd_H) : go gd_P0 d 28 15 L st h = gs gd_P0 d 28 15 L (i_psh (.int 1) 16 L st h) := go_eq gd_P0 d 28 15 L st h
theorem x28_16 (d : Nat) (L st : List Value) (h : gd_H) : go gd_P0 d 28 16 L st h = gs gd_P0 d 28 16 L (i_iret L st h) := go_eq gd_P0 d 28 16 L st h
theorem x28_17 (d : Nat) (L st : List Value) (h : gd_H) : go gd_P0 d 28 17 L st h = gs gd_P0 d 28 17 L (i_msk [false, false, false, false, false] (i_ast 4 19) L st h) := go_eq gd_P0 d 28 17 L st h
theorem x28_19 (d : Nat) (L st : List Value) (h : gd_H) : go gd_P0 d 28 19 L st h = gs gd_P0 d 28 19 L (i_psh (.int 2) 20 L st h) := go_eq gd_P0 d 28 19 L st h
theorem x28_20 (d : Nat) (L st : List Value) (h : gd_H) : go gd_P0 d 28 20 L st h = gs gd_P0 d 28 20 L (i_iret L st h) := go_eq gd_P0 d 28 20 L st h
theorem x28_21 (d : Nat) (L st : List Value) (h : gd_H) : go gd_P0 d 28 21 L st h = gs gd_P0 d 28 21 L (i_psh (.int 0) 22 L st h) := go_eq gd_P0 d 28 21 L st h
theorem x28_22 (d : Nat) (L st : List Value) (h : gd_H) : go gd_P0 d 28 22 L st h = gs gd_P0 d 28 22 L (i_iret L st h) := go_eq gd_P0 d 28 22 L st h
theorem s28_0 (d : Nat) (h : gd_H) (v0 : Nat) (v1 : Int32) (v2 : Int32) (v3 : Nat) : go gd_P0 d 28 0 [.ref v0, .int v1, .int v2, .ref v3, .null] [] h =
    if gT h v0 = 1 then gc gd_P0 d 28 5 8 [.ref v0, .int v1, .int v2, .ref v3, .null] [.int 0, .ref v3] (run gd_P0 d 75 [.ref v0, .int v1, .int v2] h) else none :=
  (x28_0 ..).trans ((x28_1 ..).trans ((x28_2 ..).trans ((x28_3 ..).trans ((x28_4 ..).trans ((x28_5 ..).trans ((gs_if ..).trans ((ia9 (by simp)).trans (ic9 rfl rfl))))))))
theorem s28_8 (d : Nat) (h : gd_H) (w0 : Value) (w1 : Value) (w2 : Value) (w3 : Value) (w4 : Value) (z0 : Int32) (z1 : Int32) (z2 : Nat) : go gd_P0 d 28 8 [w0, w1, w2, w3, w4] [.int z0, .int z1, .ref z2] h =
    if gT h z2 = 34 ∧ ¬ (z1 < 0 ∨ gL h z2 ≤ Int32.toNatClampNeg z1) then some (.inl (some (.int 0)), (wJ h (up1 (gJ h) z2 (Int32.toNatClampNeg z1) (Int32.toInt64 z0)))) else none :=
  (x28_8 ..).trans ((x28_9 ..).trans ((gs_if ..).trans (ic9 ((x28_10 ..).trans ((x28_21 ..).trans ((x28_22 ..)))) rfl)))
theorem s28_13 (d : Nat) (h : gd_H) (w0 : Value) (w1 : Value) (w2 : Value) (w3 : Value) (w4 : Value) (z0 : Nat) : go gd_P0 d 28 13 [w0, w1, w2, w3, w4] [.ref z0] h =
    some (.inl (some (.int 1)), h) :=
  (x28_13 ..).trans ((x28_15 ..).trans ((x28_16 ..)))
theorem s28_17 (d : Nat) (h : gd_H) (w0 : Value) (w1 : Value) (w2 : Value) (w3 : Value) (w4 : Value) (z0 : Nat) : go gd_P0 d 28 17 [w0, w1, w2, w3, w4] [.ref z0] h =
    some (.inl (some (.int 2)), h) :=
  (x28_17 ..).trans ((x28_19 ..).trans ((x28_20 ..)))
theorem r28 (d : Nat) (h : gd_H) (v0 : Nat) (v1 : Int32) (v2 : Int32) (v3 : Nat) : run gd_P0 (d + 1) 28 [.ref v0, .int v1, .int v2, .ref v3] h = go gd_P0 d 28 0 [.ref v0, .int v1, .int v2, .ref v3, .null] [] h := run_succ gd_P0 d 28 [.ref v0, .int v1, .int v2, .ref v3] h (Nat.le_of_ble_eq_true rfl)
theorem x29_0 (d : Nat) (L st : List Value) (h : gd_H) : go gd_P0 d 29 0 L st h = gs gd_P0 d 29 0 L (i_ald 5 2 L st h) := go_eq gd_P0 d 29 0 L st h
theorem x29_2 (d : Nat) (L st : List Value) (h : gd_H) : go gd_P0 d 29 2 L st h = gs gd_P0 d 29 2 L (i_psh (.int 0) 3 L st h) := go_eq gd_P0 d 29 2 L st h
theorem x29_3 (d : Nat) (L st : List Value) (h : gd_H) : go gd_P0 d 29 3 L st h = gs gd_P0 d 29 3 L (i_ald 0 4 L st h) := go_eq gd_P0 d 29 3 L st h
theorem x29_4 (d : Nat) (L st : List Value) (h : gd_H) : go gd_P0 d 29 4 L st h = gs gd_P0 d 29 4 L (i_ild 1 5 L st h) := go_eq gd_P0 d 29 4 L st h
theorem x29_5 (d : Nat) (L st : List Value) (h : gd_H) : go gd_P0 d 29 5 L st h = gs gd_P0 d 29 5 L (i_ild 2 6 L st h) := go_eq gd_P0 d 29 5 L st h
theorem x29_6 (d : Nat) (L st : List Value) (h : gd_H) : go gd_P0 d 29 6 L st h = gs gd_P0 d 29 6 L (i_ild 3 7 L st h) := go_eq gd_P0 d 29 6 L st h
theorem x29_7 (d : Nat) (L st : List Value) (h : gd_H) : go gd_P0 d 29 7 L st h = gs gd_P0 d 29 7 L (i_ild 4 9 L st h) := go_eq gd_P0 d 29 7 L st h
theorem x29_9 (d : Nat) (L st : List Value) (h : gd_H) : go gd_P0 d 29 9 L st h = gs gd_P0 d 29 9 L (i_cV 78 4 1 12 L st h) := go_eq gd_P0 d 29 9 L st h
theorem x29_12 (d : Nat) (L st : List Value) (h : gd_H) : go gd_P0 d 29 12 L st h = gs gd_P0 d 29 12 L (i_msk [false, false, false, false, false, false, false] (i_astJ 13) L st h) := go_eq gd_P0 d 29 12 L st h
theorem x29_13 (d : Nat) (L st : List Value) (h : gd_H) : go gd_P0 d 29 13 L st h = gs gd_P0 d 29 13 L (i_goto 20 L st h) := go_eq gd_P0 d 29 13 L st h
theorem x29_16 (d : Nat) (L st : List Value) (h : gd_H) : go gd_P0 d 29 16 L st h = gs gd_P0 d 29 16 L (i_msk [false, false, false, false, false, false, false] (i_ast 6 18) L st h) := go_eq gd_P0 d 29 16 L st h
theorem x29_18 (d : Nat) (L st : List Value) (h : gd_H) : go gd_P0 d 29 18 L st h = gs gd_P0 d 29 18 L (i_psh (.int 1) 19 L st h) := go_eq gd_P0 d 29 18 L st h
theorem x29_19 (d : Nat) (L st : List Value) (h : gd_H) : go gd_P0 d 29 19 L st h = gs gd_P0 d 29 19 L (i_iret L st h) := go_eq gd_P0 d 29 19 L st h
theorem x29_20 (d : Nat) (L st : List Value) (h : gd_H) : go gd_P0 d 29 20 L st h = gs gd_P0 d 29 20 L (i_psh (.int 0) 21 L st h) := go_eq gd_P0 d 29 20 L st h
theorem x29_21 (d : Nat) (L st : List Value) (h : gd_H) : go gd_P0 d 29 21 L st h = gs gd_P0 d 29 21 L (i_iret L st h) := go_eq gd_P0 d 29 21 L st h
theorem s29_0 (d : Nat) (h : gd_H) (v0 : Nat) (v1 : Int32) (v2 : Int32) (v3 : Int32) (v4 : Int32) (v5 : Nat) : go gd_P0 d 29 0 [.ref v0, .int v1, .int v2, .int v3, .int v4, .ref v5, .null] [] h =
    if gT h v0 = 1 then gc gd_P0 d 29 9 12 [.ref v0, .int v1, .int v2, .int v3, .int v4, .ref v5, .null] [.int 0, .ref v5] (run gd_P0 d 78 [.ref v0, .int v1, .int v2, .int v3, .int v4] h) else none :=
  (x29_0 ..).trans ((x29_2 ..).trans ((x29_3 ..).trans ((x29_4 ..).trans ((x29_5 ..).trans ((x29_6 ..).trans ((x29_7 ..).trans ((x29_9 ..).trans ((gs_if ..).trans ((ia9 (by simp)).trans (ic9 rfl rfl))))))))))
theorem s29_12 (d : Nat) (h : gd_H) (w0 : Value) (w1 : Value) (w2 : Value) (w3 : Value) (w4 : Value) (w5 : Value) (w6 : Value) (z0 : Int64) (z1 : Int32) (z2 : Nat) : go gd_P0 d 29 12 [w0, w1, w2, w3, w4, w5, w6] [.long z0, .int z1, .ref z2] h =
    if gT h z2 = 34 ∧ ¬ (z1 < 0 ∨ gL h z2 ≤ Int32.toNatClampNeg z1) then some (.inl (some (.int 0)), (wJ h (up1 (gJ h) z2 (Int32.toNatClampNeg z1) z0))) else none :=
  (x29_12 ..).trans ((gs_nif ..).trans (ic9 ((x29_13 ..).trans ((x29_20 ..).trans ((x29_21 ..)))) rfl))
theorem s29_16 (d : Nat) (h : gd_H) (w0 : Value) (w1 : Value) (w2 : Value) (w3 : Value) (w4 : Value) (w5 : Value) (w6 : Value) (z0 : Nat) : go gd_P0 d 29 16 [w0, w1, w2, w3, w4, w5, w6] [.ref z0] h =
    some (.inl (some (.int 1)), h) :=
  (x29_16 ..).trans ((x29_18 ..).trans ((x29_19 ..)))
theorem r29 (d : Nat) (h : gd_H) (v0 : Nat) (v1 : Int32) (v2 : Int32) (v3 : Int32) (v4 : Int32) (v5 : Nat) : run gd_P0 (d + 1) 29 [.ref v0, .int v1, .int v2, .int v3, .int v4, .ref v5] h = go gd_P0 d 29 0 [.ref v0, .int v1, .int v2, .int v3, .int v4, .ref v5, .null] [] h := run_succ gd_P0 d 29 [.ref v0, .int v1, .int v2, .int v3, .int v4, .ref v5] h (Nat.le_of_ble_eq_true rfl)
theorem x30_0 (d : Nat) (L st : List Value) (h : gd_H) : go gd_P0 d 30 0 L st h = gs gd_P0 d 30 0 L (i_ald 4 2 L st h) := go_eq gd_P0 d 30 0 L st h
theorem x30_2 (d : Nat) (L st : List Value) (h : gd_H) : go gd_P0 d 30 2 L st h = gs gd_P0 d 30 2 L (i_psh (.int 0) 3 L st h) := go_eq gd_P0 d 30 2 L st h
theorem x30_3 (d : Nat) (L st : List Value) (h : gd_H) : go gd_P0 d 30 3 L st h = gs gd_P0 d 30 3 L (i_ald 0 4 L st h) := go_eq gd_P0 d 30 3 L st h
theorem x30_4 (d : Nat) (L st : List Value) (h : gd_H) : go gd_P0 d 30 4 L st h = gs gd_P0 d 30 4 L (i_ild 1 5 L st h) := go_eq gd_P0 d 30 4 L st h
theorem x30_5 (d : Nat) (L st : List Value) (h : gd_H) : go gd_P0 d 30 5 L st h = gs gd_P0 d 30 5 L (i_ild 2 6 L st h) := go_eq gd_P0 d 30 5 L st h
theorem x30_6 (d : Nat) (L st : List Value) (h : gd_H) : go gd_P0 d 30 6 L st h = gs gd_P0 d 30 6 L (i_ild 3 7 L st h) := go_eq gd_P0 d 30 6 L st h
theorem x30_7 (d : Nat) (L st : List Value) (h : gd_H) : go gd_P0 d 30 7 L st h = gs gd_P0 d 30 7 L (i_cV 80 3 1 10 L st h) := go_eq gd_P0 d 30 7 L st h
theorem x30_10 (d : Nat) (L st : List Value) (h : gd_H) : go gd_P0 d 30 10 L st h = gs gd_P0 d 30 10 L (i_msk [false, false, false, false, false, false] (i_i2l 11) L st h) := go_eq gd_P0 d 30 10 L st h
theorem x30_11 (d : Nat) (L st : List Value) (h : gd_H) : go gd_P0 d 30 11 L st h = gs gd_P0 d 30 11 L (i_astJ 12 L st h) := go_eq gd_P0 d 30 11 L st h
theorem x30_12 (d : Nat) (L st : List Value) (h : gd_H) : go gd_P0 d 30 12 L st h = gs gd_P0 d 30 12 L (i_goto 19 L st h) := go_eq gd_P0 d 30 12 L st h
theorem x30_15 (d : Nat) (L st : List Value) (h : gd_H) : go gd_P0 d 30 15 L st h = gs gd_P0 d 30 15 L (i_msk [false, false, false, false, false, false] (i_ast 5 17) L st h) := go_eq gd_P0 d 30 15 L st h
theorem x30_17 (d : Nat) (L st : List Value) (h : gd_H) : go gd_P0 d 30 17 L st h = gs gd_P0 d 30 17 L (i_psh (.int 1) 18 L st h) := go_eq gd_P0 d 30 17 L st h
theorem x30_18 (d : Nat) (L st : List Value) (h : gd_H) : go gd_P0 d 30 18 L st h = gs gd_P0 d 30 18 L (i_iret L st h) := go_eq gd_P0 d 30 18 L st h
theorem x30_19 (d : Nat) (L st : List Value) (h : gd_H) : go gd_P0 d 30 19 L st h = gs gd_P0 d 30 19 L (i_psh (.int 0) 20 L st h) := go_eq gd_P0 d 30 19 L st h
theorem x30_20 (d : Nat) (L st : List Value) (h : gd_H) : go gd_P0 d 30 20 L st h = gs gd_P0 d 30 20 L (i_iret L st h) := go_eq gd_P0 d 30 20 L st h
theorem s30_0 (d : Nat) (h : gd_H) (v0 : Nat) (v1 : Int32) (v2 : Int32) (v3 : Int32) (v4 : Nat) : go gd_P0 d 30 0 [.ref v0, .int v1, .int v2, .int v3, .ref v4, .null] [] h =
    if gT h v0 = 1 then gc gd_P0 d 30 7 10 [.ref v0, .int v1, .int v2, .int v3, .ref v4, .null] [.int 0, .ref v4] (run gd_P0 d 80 [.ref v0, .int v1, .int v2, .int v3] h) else none :=
  (x30_0 ..).trans ((x30_2 ..).trans ((x30_3 ..).trans ((x30_4 ..).trans ((x30_5 ..).trans ((x30_6 ..).trans ((x30_7 ..).trans ((gs_if ..).trans ((ia9 (by simp)).trans (ic9 rfl rfl)))))))))
theorem s30_10 (d : Nat) (h : gd_H) (w0 : Value) (w1 : Value) (w2 : Value) (w3 : Value) (w4 : Value) (w5 : Value) (z0 : Int32) (z1 : Int32) (z2 : Nat) : go gd_P0 d 30 10 [w0, w1, w2, w3, w4, w5] [.int z0, .int z1, .ref z2] h =
    if gT h z2 = 34 ∧ ¬ (z1 < 0 ∨ gL h z2 ≤ Int32.toNatClampNeg z1) then some (.inl (some (.int 0)), (wJ h (up1 (gJ h) z2 (Int32.toNatClampNeg z1) (Int32.toInt64 z0)))) else none :=
  (x30_10 ..).trans ((x30_11 ..).trans ((gs_if ..).trans (ic9 ((x30_12 ..).trans ((x30_19 ..).trans ((x30_20 ..)))) rfl)))
theorem s30_15 (d : Nat) (h : gd_H) (w0 : Value) (w1 : Value) (w2 : Value) (w3 : Value) (w4 : Value) (w5 : Value) (z0 : Nat) : go gd_P0 d 30 15 [w0, w1, w2, w3, w4, w5] [.ref z0] h =
    some (.inl (some (.int 1)), h) :=
  (x30_15 ..).trans ((x30_17 ..).trans ((x30_18 ..)))
theorem r30 (d : Nat) (h : gd_H) (v0 : Nat) (v1 : Int32) (v2 : Int32) (v3 : Int32) (v4 : Nat) : run gd_P0 (d + 1) 30 [.ref v0, .int v1, .int v2, .int v3, .ref v4] h = go gd_P0 d 30 0 [.ref v0, .int v1, .int v2, .int v3, .ref v4, .null] [] h := run_succ gd_P0 d 30 [.ref v0, .int v1, .int v2, .int v3, .ref v4] h (Nat.le_of_ble_eq_true rfl)
theorem x31_0 (d : Nat) (L st : List Value) (h : gd_H) : go gd_P0 d 31 0 L st h = gs gd_P0 d 31 0 L (i_ald 4 2 L st h) := go_eq gd_P0 d 31 0 L st h
theorem x31_2 (d : Nat) (L st : List Value) (h : gd_H) : go gd_P0 d 31 2 L st h = gs gd_P0 d 31 2 L (i_psh (.int 0) 3 L st h) := go_eq gd_P0 d 31 2 L st h
theorem x31_3 (d : Nat) (L st : List Value) (h : gd_H) : go gd_P0 d 31 3 L st h = gs gd_P0 d 31 3 L (i_ald 0 4 L st h) := go_eq gd_P0 d 31 3 L st h
theorem x31_4 (d : Nat) (L st : List Value) (h : gd_H) : go gd_P0 d 31 4 L st h = gs gd_P0 d 31 4 L (i_ild 1 5 L st h) := go_eq gd_P0 d 31 4 L st h
theorem x31_5 (d : Nat) (L st : List Value) (h : gd_H) : go gd_P0 d 31 5 L st h = gs gd_P0 d 31 5 L (i_ild 2 6 L st h) := go_eq gd_P0 d 31 5 L st h
theorem x31_6 (d : Nat) (L st : List Value) (h : gd_H) : go gd_P0 d 31 6 L st h = gs gd_P0 d 31 6 L (i_ild 3 7 L st h) := go_eq gd_P0 d 31 6 L st h
theorem x31_7 (d : Nat) (L st : List Value) (h : gd_H) : go gd_P0 d 31 7 L st h = gs gd_P0 d 31 7 L (i_cV 82 3 1 10 L st h) := go_eq gd_P0 d 31 7 L st h
theorem x31_10 (d : Nat) (L st : List Value) (h : gd_H) : go gd_P0 d 31 10 L st h = gs gd_P0 d 31 10 L (i_msk [false, false, false, false, false, false] (i_i2l 11) L st h) := go_eq gd_P0 d 31 10 L st h
theorem x31_11 (d : Nat) (L st : List Value) (h : gd_H) : go gd_P0 d 31 11 L st h = gs gd_P0 d 31 11 L (i_astJ 12 L st h) := go_eq gd_P0 d 31 11 L st h
theorem x31_12 (d : Nat) (L st : List Value) (h : gd_H) : go gd_P0 d 31 12 L st h = gs gd_P0 d 31 12 L (i_goto 23 L st h) := go_eq gd_P0 d 31 12 L st h
theorem x31_15 (d : Nat) (L st : List Value) (h : gd_H) : go gd_P0 d 31 15 L st h = gs gd_P0 d 31 15 L (i_msk [false, false, false, false, false, false] (i_ast 5 17) L st h) := go_eq gd_P0 d 31 15 L st h
theorem x31_17 (d : Nat) (L st : List Value) (h : gd_H) : go gd_P0 d 31 17 L st h = gs gd_P0 d 31 17 L (i_psh (.int 1) 18 L st h) := go_eq gd_P0 d 31 17 L st h
theorem x31_18 (d : Nat) (L st : List Value) (h : gd_H) : go gd_P0 d 31 18 L st h = gs gd_P0 d 31 18 L (i_iret L st h) := go_eq gd_P0 d 31 18 L st h
theorem x31_19 (d : Nat) (L st : List Value) (h : gd_H) : go gd_P0 d 31 19 L st h = gs gd_P0 d 31 19 L (i_msk [false, false, false, false, false, false] (i_ast 5 21) L st h) := go_eq gd_P0 d 31 19 L st h
theorem x31_21 (d : Nat) (L st : List Value) (h : gd_H) : go gd_P0 d 31 21 L st h = gs gd_P0 d 31 21 L (i_psh (.int 2) 22 L st h) := go_eq gd_P0 d 31 21 L st h
theorem x31_22 (d : Nat) (L st : List Value) (h : gd_H) : go gd_P0 d 31 22 L st h = gs gd_P0 d 31 22 L (i_iret L st h) := go_eq gd_P0 d 31 22 L st h
theorem x31_23 (d : Nat) (L st : List Value) (h : gd_H) : go gd_P0 d 31 23 L st h = gs gd_P0 d 31 23 L (i_psh (.int 0) 24 L st h) := go_eq gd_P0 d 31 23 L st h
theorem x31_24 (d : Nat) (L st : List Value) (h : gd_H) : go gd_P0 d 31 24 L st h = gs gd_P0 d 31 24 L (i_iret L st h) := go_eq gd_P0 d 31 24 L st h
theorem s31_0 (d : Nat) (h : gd_H) (v0 : Nat) (v1 : Int32) (v2 : Int32) (v3 : Int32) (v4 : Nat) : go gd_P0 d 31 0 [.ref v0, .int v1, .int v2, .int v3, .ref v4, .null] [] h =
    if gT h v0 = 1 then gc gd_P0 d 31 7 10 [.ref v0, .int v1, .int v2, .int v3, .ref v4, .null] [.int 0, .ref v4] (run gd_P0 d 82 [.ref v0, .int v1, .int v2, .int v3] h) else none :=
  (x31_0 ..).trans ((x31_2 ..).trans ((x31_3 ..).trans ((x31_4 ..).trans ((x31_5 ..).trans ((x31_6 ..).trans ((x31_7 ..).trans ((gs_if ..).trans ((ia9 (by simp)).trans (ic9 rfl rfl)))))))))
theorem s31_10 (d : Nat) (h : gd_H) (w0 : Value) (w1 : Value) (w2 : Value) (w3 : Value) (w4 : Value) (w5 : Value) (z0 : Int32) (z1 : Int32) (z2 : Nat) : go gd_P0 d 31 10 [w0, w1, w2, w3, w4, w5] [.int z0, .int z1, .ref z2] h =
    if gT h z2 = 34 ∧ ¬ (z1 < 0 ∨ gL h z2 ≤ Int32.toNatClampNeg z1) then some (.inl (some (.int 0)), (wJ h (up1 (gJ h) z2 (Int32.toNatClampNeg z1) (Int32.toInt64 z0)))) else none :=
  (x31_10 ..).trans ((x31_11 ..).trans ((gs_if ..).trans (ic9 ((x31_12 ..).trans ((x31_23 ..).trans ((x31_24 ..)))) rfl)))
theorem s31_15 (d : Nat) (h : gd_H) (w0 : Value) (w1 : Value) (w2 : Value) (w3 : Value) (w4 : Value) (w5 : Value) (z0 : Nat) : go gd_P0 d 31 15 [w0, w1, w2, w3, w4, w5] [.ref z0] h =
    some (.inl (some (.int 1)), h) :=
  (x31_15 ..).trans ((x31_17 ..).trans ((x31_18 ..)))
theorem s31_19 (d : Nat) (h : gd_H) (w0 : Value) (w1 : Value) (w2 : Value) (w3 : Value) (w4 : Value) (w5 : Value) (z0 : Nat) : go gd_P0 d 31 19 [w0, w1, w2, w3, w4, w5] [.ref z0] h =
    some (.inl (some (.int 2)), h) :=
  (x31_19 ..).trans ((x31_21 ..).trans ((x31_22 ..)))
theorem r31 (d : Nat) (h : gd_H) (v0 : Nat) (v1 : Int32) (v2 : Int32) (v3 : Int32) (v4 : Nat) : run gd_P0 (d + 1) 31 [.ref v0, .int v1, .int v2, .int v3, .ref v4] h = go gd_P0 d 31 0 [.ref v0, .int v1, .int v2, .int v3, .ref v4, .null] [] h := run_succ gd_P0 d 31 [.ref v0, .int v1, .int v2, .int v3, .ref v4] h (Nat.le_of_ble_eq_true rfl)
theorem x32_0 (d : Nat) (L st : List Value) (h : gd_H) : go gd_P0 d 32 0 L st h = gs gd_P0 d 32 0 L (i_ald 2 1 L st h) := go_eq gd_P0 d 32 0 L st h
theorem x32_1 (d : Nat) (L st : List Value) (h : gd_H) : go gd_P0 d 32 1 L st h = gs gd_P0 d 32 1 L (i_psh (.int 0) 2 L st h) := go_eq gd_P0 d 32 1 L st h
theorem x32_2 (d : Nat) (L st : List Value) (h : gd_H) : go gd_P0 d 32 2 L st h = gs gd_P0 d 32 2 L (i_ald 0 3 L st h) := go_eq gd_P0 d 32 2 L st h
theorem x32_3 (d : Nat) (L st : List Value) (h : gd_H) : go gd_P0 d 32 3 L st h = gs gd_P0 d 32 3 L (i_ild 1 4 L st h) := go_eq gd_P0 d 32 3 L st h
theorem x32_4 (d : Nat) (L st : List Value) (h : gd_H) : go gd_P0 d 32 4 L st h = gs gd_P0 d 32 4 L (i_cV 84 1 1 7 L st h) := go_eq gd_P0 d 32 4 L st h
theorem x32_7 (d : Nat) (L st : List Value) (h : gd_H) : go gd_P0 d 32 7 L st h = gs gd_P0 d 32 7 L (i_msk [false, false, false, false] (i_i2l 8) L st h) := go_eq gd_P0 d 32 7 L st h
theorem x32_8 (d : Nat) (L st : List Value) (h : gd_H) : go gd_P0 d 32 8 L st h = gs gd_P0 d 32 8 L (i_astJ 9 L st h) := go_eq gd_P0 d 32 8 L st h
theorem x32_9 (d : Nat) (L st : List Value) (h : gd_H) : go gd_P0 d 32 9 L st h = gs gd_P0 d 32 9 L (i_goto 15 L st h) := go_eq gd_P0 d 32 9 L st h
theorem x32_12 (d : Nat) (L st : List Value) (h : gd_H) : go gd_P0 d 32 12 L st h = gs gd_P0 d 32 12 L (i_msk [false, false, false, false] (i_ast 3 13) L st h) := go_eq gd_P0 d 32 12 L st h
theorem x32_13 (d : Nat) (L st : List Value) (h : gd_H) : go gd_P0 d 32 13 L st h = gs gd_P0 d 32 13 L (i_psh (.int 1) 14 L st h) := go_eq gd_P0 d 32 13 L st h
theorem x32_14 (d : Nat) (L st : List Value) (h : gd_H) : go gd_P0 d 32 14 L st h = gs gd_P0 d 32 14 L (i_iret L st h) := go_eq gd_P0 d 32 14 L st h
theorem x32_15 (d : Nat) (L st : List Value) (h : gd_H) : go gd_P0 d 32 15 L st h = gs gd_P0 d 32 15 L (i_psh (.int 0) 16 L st h) := go_eq gd_P0 d 32 15 L st h
theorem x32_16 (d : Nat) (L st : List Value) (h : gd_H) : go gd_P0 d 32 16 L st h = gs gd_P0 d 32 16 L (i_iret L st h) := go_eq gd_P0 d 32 16 L st h
theorem s32_0 (d : Nat) (h : gd_H) (v0 : Nat) (v1 : Int32) (v2 : Nat) : go gd_P0 d 32 0 [.ref v0, .int v1, .ref v2, .null] [] h =
    if gT h v0 = 1 then gc gd_P0 d 32 4 7 [.ref v0, .int v1, .ref v2, .null] [.int 0, .ref v2] (run gd_P0 d 84 [.ref v0, .int v1] h) else none :=
  (x32_0 ..).trans ((x32_1 ..).trans ((x32_2 ..).trans ((x32_3 ..).trans ((x32_4 ..).trans ((gs_if ..).trans ((ia9 (by simp)).trans (ic9 rfl rfl)))))))
theorem s32_7 (d : Nat) (h : gd_H) (w0 : Value) (w1 : Value) (w2 : Value) (w3 : Value) (z0 : Int32) (z1 : Int32) (z2 : Nat) : go gd_P0 d 32 7 [w0, w1, w2, w3] [.int z0, .int z1, .ref z2] h =
    if gT h z2 = 34 ∧ ¬ (z1 < 0 ∨ gL h z2 ≤ Int32.toNatClampNeg z1) then some (.inl (some (.int 0)), (wJ h (up1 (gJ h) z2 (Int32.toNatClampNeg z1) (Int32.toInt64 z0)))) else none :=
  (x32_7 ..).trans ((x32_8 ..).trans ((gs_if ..).trans (ic9 ((x32_9 ..).trans ((x32_15 ..).trans ((x32_16 ..)))) rfl)))
theorem s32_12 (d : Nat) (h : gd_H) (w0 : Value) (w1 : Value) (w2 : Value) (w3 : Value) (z0 : Nat) : go gd_P0 d 32 12 [w0, w1, w2, w3] [.ref z0] h =
    some (.inl (some (.int 1)), h) :=
  (x32_12 ..).trans ((x32_13 ..).trans ((x32_14 ..)))
theorem r32 (d : Nat) (h : gd_H) (v0 : Nat) (v1 : Int32) (v2 : Nat) : run gd_P0 (d + 1) 32 [.ref v0, .int v1, .ref v2] h = go gd_P0 d 32 0 [.ref v0, .int v1, .ref v2, .null] [] h := run_succ gd_P0 d 32 [.ref v0, .int v1, .ref v2] h (Nat.le_of_ble_eq_true rfl)
theorem x33_0 (d : Nat) (L st : List Value) (h : gd_H) : go gd_P0 d 33 0 L st h = gs gd_P0 d 33 0 L (i_ald 2 1 L st h) := go_eq gd_P0 d 33 0 L st h
theorem x33_1 (d : Nat) (L st : List Value) (h : gd_H) : go gd_P0 d 33 1 L st h = gs gd_P0 d 33 1 L (i_psh (.int 0) 2 L st h) := go_eq gd_P0 d 33 1 L st h
theorem x33_2 (d : Nat) (L st : List Value) (h : gd_H) : go gd_P0 d 33 2 L st h = gs gd_P0 d 33 2 L (i_ald 0 3 L st h) := go_eq gd_P0 d 33 2 L st h
theorem x33_3 (d : Nat) (L st : List Value) (h : gd_H) : go gd_P0 d 33 3 L st h = gs gd_P0 d 33 3 L (i_ild 1 4 L st h) := go_eq gd_P0 d 33 3 L st h
theorem x33_4 (d : Nat) (L st : List Value) (h : gd_H) : go gd_P0 d 33 4 L st h = gs gd_P0 d 33 4 L (i_cV 85 1 1 7 L st h) := go_eq gd_P0 d 33 4 L st h
theorem x33_7 (d : Nat) (L st : List Value) (h : gd_H) : go gd_P0 d 33 7 L st h = gs gd_P0 d 33 7 L (i_msk [false, false, false, false] (i_i2l 8) L st h) := go_eq gd_P0 d 33 7 L st h
theorem x33_8 (d : Nat) (L st : List Value) (h : gd_H) : go gd_P0 d 33 8 L st h = gs gd_P0 d 33 8 L (i_astJ 9 L st h) := go_eq gd_P0 d 33 8 L st h
theorem x33_9 (d : Nat) (L st : List Value) (h : gd_H) : go gd_P0 d 33 9 L st h = gs gd_P0 d 33 9 L (i_goto 15 L st h) := go_eq gd_P0 d 33 9 L st h
theorem x33_12 (d : Nat) (L st : List Value) (h : gd_H) : go gd_P0 d 33 12 L st h = gs gd_P0 d 33 12 L (i_msk [false, false, false, false] (i_ast 3 13) L st h) := go_eq gd_P0 d 33 12 L st h
theorem x33_13 (d : Nat) (L st : List Value) (h : gd_H) : go gd_P0 d 33 13 L st h = gs gd_P0 d 33 13 L (i_psh (.int 1) 14 L st h) := go_eq gd_P0 d 33 13 L st h
theorem x33_14 (d : Nat) (L st : List Value) (h : gd_H) : go gd_P0 d 33 14 L st h = gs gd_P0 d 33 14 L (i_iret L st h) := go_eq gd_P0 d 33 14 L st h
theorem x33_15 (d : Nat) (L st : List Value) (h : gd_H) : go gd_P0 d 33 15 L st h = gs gd_P0 d 33 15 L (i_psh (.int 0) 16 L st h) := go_eq gd_P0 d 33 15 L st h
theorem x33_16 (d : Nat) (L st : List Value) (h : gd_H) : go gd_P0 d 33 16 L st h = gs gd_P0 d 33 16 L (i_iret L st h) := go_eq gd_P0 d 33 16 L st h
theorem s33_0 (d : Nat) (h : gd_H) (v0 : Nat) (v1 : Int32) (v2 : Nat) : go gd_P0 d 33 0 [.ref v0, .int v1, .ref v2, .null] [] h =
    if gT h v0 = 1 then gc gd_P0 d 33 4 7 [.ref v0, .int v1, .ref v2, .null] [.int 0, .ref v2] (run gd_P0 d 85 [.ref v0, .int v1] h) else none :=
  (x33_0 ..).trans ((x33_1 ..).trans ((x33_2 ..).trans ((x33_3 ..).trans ((x33_4 ..).trans ((gs_if ..).trans ((ia9 (by simp)).trans (ic9 rfl rfl)))))))
theorem s33_7 (d : Nat) (h : gd_H) (w0 : Value) (w1 : Value) (w2 : Value) (w3 : Value) (z0 : Int32) (z1 : Int32) (z2 : Nat) : go gd_P0 d 33 7 [w0, w1, w2, w3] [.int z0, .int z1, .ref z2] h =
    if gT h z2 = 34 ∧ ¬ (z1 < 0 ∨ gL h z2 ≤ Int32.toNatClampNeg z1) then some (.inl (some (.int 0)), (wJ h (up1 (gJ h) z2 (Int32.toNatClampNeg z1) (Int32.toInt64 z0)))) else none :=
  (x33_7 ..).trans ((x33_8 ..).trans ((gs_if ..).trans (ic9 ((x33_9 ..).trans ((x33_15 ..).trans ((x33_16 ..)))) rfl)))
theorem s33_12 (d : Nat) (h : gd_H) (w0 : Value) (w1 : Value) (w2 : Value) (w3 : Value) (z0 : Nat) : go gd_P0 d 33 12 [w0, w1, w2, w3] [.ref z0] h =
    some (.inl (some (.int 1)), h) :=
  (x33_12 ..).trans ((x33_13 ..).trans ((x33_14 ..)))
theorem r33 (d : Nat) (h : gd_H) (v0 : Nat) (v1 : Int32) (v2 : Nat) : run gd_P0 (d + 1) 33 [.ref v0, .int v1, .ref v2] h = go gd_P0 d 33 0 [.ref v0, .int v1, .ref v2, .null] [] h := run_succ gd_P0 d 33 [.ref v0, .int v1, .ref v2] h (Nat.le_of_ble_eq_true rfl)
theorem x34_0 (d : Nat) (L st : List Value) (h : gd_H) : go gd_P0 d 34 0 L st h = gs gd_P0 d 34 0 L (i_ald 2 1 L st h) := go_eq gd_P0 d 34 0 L st h
theorem x34_1 (d : Nat) (L st : List Value) (h : gd_H) : go gd_P0 d 34 1 L st h = gs gd_P0 d 34 1 L (i_psh (.int 0) 2 L st h) := go_eq gd_P0 d 34 1 L st h
theorem x34_2 (d : Nat) (L st : List Value) (h : gd_H) : go gd_P0 d 34 2 L st h = gs gd_P0 d 34 2 L (i_ald 0 3 L st h) := go_eq gd_P0 d 34 2 L st h
theorem x34_3 (d : Nat) (L st : List Value) (h : gd_H) : go gd_P0 d 34 3 L st h = gs gd_P0 d 34 3 L (i_ild 1 4 L st h) := go_eq gd_P0 d 34 3 L st h
theorem x34_4 (d : Nat) (L st : List Value) (h : gd_H) : go gd_P0 d 34 4 L st h = gs gd_P0 d 34 4 L (i_cV 86 1 1 7 L st h) := go_eq gd_P0 d 34 4 L st h
theorem x34_7 (d : Nat) (L st : List Value) (h : gd_H) : go gd_P0 d 34 7 L st h = gs gd_P0 d 34 7 L (i_msk [false, false, false, false] (i_i2l 8) L st h) := go_eq gd_P0 d 34 7 L st h
theorem x34_8 (d : Nat) (L st : List Value) (h : gd_H) : go gd_P0 d 34 8 L st h = gs gd_P0 d 34 8 L (i_astJ 9 L st h) := go_eq gd_P0 d 34 8 L st h
theorem x34_9 (d : Nat) (L st : List Value) (h : gd_H) : go gd_P0 d 34 9 L st h = gs gd_P0 d 34 9 L (i_goto 15 L st h) := go_eq gd_P0 d 34 9 L st h
theorem x34_12 (d : Nat) (L st : List Value) (h : gd_H) : go gd_P0 d 34 12 L st h = gs gd_P0 d 34 12 L (i_msk [false, false, false, false] (i_ast 3 13) L st h) := go_eq gd_P0 d 34 12 L st h
theorem x34_13 (d : Nat) (L st : List Value) (h : gd_H) : go gd_P0 d 34 13 L st h = gs gd_P0 d 34 13 L (i_psh (.int 1) 14 L st h) := go_eq gd_P0 d 34 13 L st h
theorem x34_14 (d : Nat) (L st : List Value) (h : gd_H) : go gd_P0 d 34 14 L st h = gs gd_P0 d 34 14 L (i_iret L st h) := go_eq gd_P0 d 34 14 L st h
theorem x34_15 (d : Nat) (L st : List Value) (h : gd_H) : go gd_P0 d 34 15 L st h = gs gd_P0 d 34 15 L (i_psh (.int 0) 16 L st h) := go_eq gd_P0 d 34 15 L st h
theorem x34_16 (d : Nat) (L st : List Value) (h : gd_H) : go gd_P0 d 34 16 L st h = gs gd_P0 d 34 16 L (i_iret L st h) := go_eq gd_P0 d 34 16 L st h
theorem s34_0 (d : Nat) (h : gd_H) (v0 : Nat) (v1 : Int32) (v2 : Nat) : go gd_P0 d 34 0 [.ref v0, .int v1, .ref v2, .null] [] h =
    if gT h v0 = 1 then gc gd_P0 d 34 4 7 [.ref v0, .int v1, .ref v2, .null] [.int 0, .ref v2] (run gd_P0 d 86 [.ref v0, .int v1] h) else none :=
  (x34_0 ..).trans ((x34_1 ..).trans ((x34_2 ..).trans ((x34_3 ..).trans ((x34_4 ..).trans ((gs_if ..).trans ((ia9 (by simp)).trans (ic9 rfl rfl)))))))
theorem s34_7 (d : Nat) (h : gd_H) (w0 : Value) (w1 : Value) (w2 : Value) (w3 : Value) (z0 : Int32) (z1 : Int32) (z2 : Nat) : go gd_P0 d 34 7 [w0, w1, w2, w3] [.int z0, .int z1, .ref z2] h =
    if gT h z2 = 34 ∧ ¬ (z1 < 0 ∨ gL h z2 ≤ Int32.toNatClampNeg z1) then some (.inl (some (.int 0)), (wJ h (up1 (gJ h) z2 (Int32.toNatClampNeg z1) (Int32.toInt64 z0)))) else none :=
  (x34_7 ..).trans ((x34_8 ..).trans ((gs_if ..).trans (ic9 ((x34_9 ..).trans ((x34_15 ..).trans ((x34_16 ..)))) rfl)))
theorem s34_12 (d : Nat) (h : gd_H) (w0 : Value) (w1 : Value) (w2 : Value) (w3 : Value) (z0 : Nat) : go gd_P0 d 34 12 [w0, w1, w2, w3] [.ref z0] h =
    some (.inl (some (.int 1)), h) :=
  (x34_12 ..).trans ((x34_13 ..).trans ((x34_14 ..)))
theorem r34 (d : Nat) (h : gd_H) (v0 : Nat) (v1 : Int32) (v2 : Nat) : run gd_P0 (d + 1) 34 [.ref v0, .int v1, .ref v2] h = go gd_P0 d 34 0 [.ref v0, .int v1, .ref v2, .null] [] h := run_succ gd_P0 d 34 [.ref v0, .int v1, .ref v2] h (Nat.le_of_ble_eq_true rfl)
theorem x35_0 (d : Nat) (L st : List Value) (h : gd_H) : go gd_P0 d 35 0 L st h = gs gd_P0 d 35 0 L (i_ald 2 1 L st h) := go_eq gd_P0 d 35 0 L st h
theorem x35_1 (d : Nat) (L st : List Value) (h : gd_H) : go gd_P0 d 35 1 L st h = gs gd_P0 d 35 1 L (i_psh (.int 0) 2 L st h) := go_eq gd_P0 d 35 1 L st h
theorem x35_2 (d : Nat) (L st : List Value) (h : gd_H) : go gd_P0 d 35 2 L st h = gs gd_P0 d 35 2 L (i_ald 0 3 L st h) := go_eq gd_P0 d 35 2 L st h
theorem x35_3 (d : Nat) (L st : List Value) (h : gd_H) : go gd_P0 d 35 3 L st h = gs gd_P0 d 35 3 L (i_ild 1 4 L st h) := go_eq gd_P0 d 35 3 L st h
theorem x35_4 (d : Nat) (L st : List Value) (h : gd_H) : go gd_P0 d 35 4 L st h = gs gd_P0 d 35 4 L (i_cV 87 1 1 7 L st h) := go_eq gd_P0 d 35 4 L st h
theorem x35_7 (d : Nat) (L st : List Value) (h : gd_H) : go gd_P0 d 35 7 L st h = gs gd_P0 d 35 7 L (i_msk [false, false, false, false] (i_i2l 8) L st h) := go_eq gd_P0 d 35 7 L st h
theorem x35_8 (d : Nat) (L st : List Value) (h : gd_H) : go gd_P0 d 35 8 L st h = gs gd_P0 d 35 8 L (i_astJ 9 L st h) := go_eq gd_P0 d 35 8 L st h
theorem x35_9 (d : Nat) (L st : List Value) (h : gd_H) : go gd_P0 d 35 9 L st h = gs gd_P0 d 35 9 L (i_goto 15 L st h) := go_eq gd_P0 d 35 9 L st h
theorem x35_12 (d : Nat) (L st : List Value) (h : gd_H) : go gd_P0 d 35 12 L st h = gs gd_P0 d 35 12 L (i_msk [false, false, false, false] (i_ast 3 13) L st h) := go_eq gd_P0 d 35 12 L st h
theorem x35_13 (d : Nat) (L st : List Value) (h : gd_H) : go gd_P0 d 35 13 L st h = gs gd_P0 d 35 13 L (i_psh (.int 1) 14 L st h) := go_eq gd_P0 d 35 13 L st h
theorem x35_14 (d : Nat) (L st : List Value) (h : gd_H) : go gd_P0 d 35 14 L st h = gs gd_P0 d 35 14 L (i_iret L st h) := go_eq gd_P0 d 35 14 L st h
theorem x35_15 (d : Nat) (L st : List Value) (h : gd_H) : go gd_P0 d 35 15 L st h = gs gd_P0 d 35 15 L (i_psh (.int 0) 16 L st h) := go_eq gd_P0 d 35 15 L st h
theorem x35_16 (d : Nat) (L st : List Value) (h : gd_H) : go gd_P0 d 35 16 L st h = gs gd_P0 d 35 16 L (i_iret L st h) := go_eq gd_P0 d 35 16 L st h
theorem s35_0 (d : Nat) (h : gd_H) (v0 : Nat) (v1 : Int32) (v2 : Nat) : go gd_P0 d 35 0 [.ref v0, .int v1, .ref v2, .null] [] h =
    if gT h v0 = 1 then gc gd_P0 d 35 4 7 [.ref v0, .int v1, .ref v2, .null] [.int 0, .ref v2] (run gd_P0 d 87 [.ref v0, .int v1] h) else none :=
  (x35_0 ..).trans ((x35_1 ..).trans ((x35_2 ..).trans ((x35_3 ..).trans ((x35_4 ..).trans ((gs_if ..).trans ((ia9 (by simp)).trans (ic9 rfl rfl)))))))
theorem s35_7 (d : Nat) (h : gd_H) (w0 : Value) (w1 : Value) (w2 : Value) (w3 : Value) (z0 : Int32) (z1 : Int32) (z2 : Nat) : go gd_P0 d 35 7 [w0, w1, w2, w3] [.int z0, .int z1, .ref z2] h =
    if gT h z2 = 34 ∧ ¬ (z1 < 0 ∨ gL h z2 ≤ Int32.toNatClampNeg z1) then some (.inl (some (.int 0)), (wJ h (up1 (gJ h) z2 (Int32.toNatClampNeg z1) (Int32.toInt64 z0)))) else none :=
  (x35_7 ..).trans ((x35_8 ..).trans ((gs_if ..).trans (ic9 ((x35_9 ..).trans ((x35_15 ..).trans ((x35_16 ..)))) rfl)))
theorem s35_12 (d : Nat) (h : gd_H) (w0 : Value) (w1 : Value) (w2 : Value) (w3 : Value) (z0 : Nat) : go gd_P0 d 35 12 [w0, w1, w2, w3] [.ref z0] h =
    some (.inl (some (.int 1)), h) :=
  (x35_12 ..).trans ((x35_13 ..).trans ((x35_14 ..)))
theorem r35 (d : Nat) (h : gd_H) (v0 : Nat) (v1 : Int32) (v2 : Nat) : run gd_P0 (d + 1) 35 [.ref v0, .int v1, .ref v2] h = go gd_P0 d 35 0 [.ref v0, .int v1, .ref v2, .null] [] h := run_succ gd_P0 d 35 [.ref v0, .int v1, .ref v2] h (Nat.le_of_ble_eq_true rfl)
theorem x36_0 (d : Nat) (L st : List Value) (h : gd_H) : go gd_P0 d 36 0 L st h = gs gd_P0 d 36 0 L (i_ald 2 1 L st h) := go_eq gd_P0 d 36 0 L st h
theorem x36_1 (d : Nat) (L st : List Value) (h : gd_H) : go gd_P0 d 36 1 L st h = gs gd_P0 d 36 1 L (i_psh (.int 0) 2 L st h) := go_eq gd_P0 d 36 1 L st h
theorem x36_2 (d : Nat) (L st : List Value) (h : gd_H) : go gd_P0 d 36 2 L st h = gs gd_P0 d 36 2 L (i_ald 0 3 L st h) := go_eq gd_P0 d 36 2 L st h
theorem x36_3 (d : Nat) (L st : List Value) (h : gd_H) : go gd_P0 d 36 3 L st h = gs gd_P0 d 36 3 L (i_ild 1 4 L st h) := go_eq gd_P0 d 36 3 L st h
theorem x36_4 (d : Nat) (L st : List Value) (h : gd_H) : go gd_P0 d 36 4 L st h = gs gd_P0 d 36 4 L (i_cV 88 1 1 7 L st h) := go_eq gd_P0 d 36 4 L st h
theorem x36_7 (d : Nat) (L st : List Value) (h : gd_H) : go gd_P0 d 36 7 L st h = gs gd_P0 d 36 7 L (i_msk [false, false, false, false] (i_i2l 8) L st h) := go_eq gd_P0 d 36 7 L st h
theorem x36_8 (d : Nat) (L st : List Value) (h : gd_H) : go gd_P0 d 36 8 L st h = gs gd_P0 d 36 8 L (i_astJ 9 L st h) := go_eq gd_P0 d 36 8 L st h
theorem x36_9 (d : Nat) (L st : List Value) (h : gd_H) : go gd_P0 d 36 9 L st h = gs gd_P0 d 36 9 L (i_goto 15 L st h) := go_eq gd_P0 d 36 9 L st h
theorem x36_12 (d : Nat) (L st : List Value) (h : gd_H) : go gd_P0 d 36 12 L st h = gs gd_P0 d 36 12 L (i_msk [false, false, false, false] (i_ast 3 13) L st h) := go_eq gd_P0 d 36 12 L st h
theorem x36_13 (d : Nat) (L st : List Value) (h : gd_H) : go gd_P0 d 36 13 L st h = gs gd_P0 d 36 13 L (i_psh (.int 1) 14 L st h) := go_eq gd_P0 d 36 13 L st h
theorem x36_14 (d : Nat) (L st : List Value) (h : gd_H) : go gd_P0 d 36 14 L st h = gs gd_P0 d 36 14 L (i_iret L st h) := go_eq gd_P0 d 36 14 L st h
theorem x36_15 (d : Nat) (L st : List Value) (h : gd_H) : go gd_P0 d 36 15 L st h = gs gd_P0 d 36 15 L (i_psh (.int 0) 16 L st h) := go_eq gd_P0 d 36 15 L st h
theorem x36_16 (d : Nat) (L st : List Value) (h : gd_H) : go gd_P0 d 36 16 L st h = gs gd_P0 d 36 16 L (i_iret L st h) := go_eq gd_P0 d 36 16 L st h
theorem s36_0 (d : Nat) (h : gd_H) (v0 : Nat) (v1 : Int32) (v2 : Nat) : go gd_P0 d 36 0 [.ref v0, .int v1, .ref v2, .null] [] h =
    if gT h v0 = 1 then gc gd_P0 d 36 4 7 [.ref v0, .int v1, .ref v2, .null] [.int 0, .ref v2] (run gd_P0 d 88 [.ref v0, .int v1] h) else none :=
  (x36_0 ..).trans ((x36_1 ..).trans ((x36_2 ..).trans ((x36_3 ..).trans ((x36_4 ..).trans ((gs_if ..).trans ((ia9 (by simp)).trans (ic9 rfl rfl)))))))
theorem s36_7 (d : Nat) (h : gd_H) (w0 : Value) (w1 : Value) (w2 : Value) (w3 : Value) (z0 : Int32) (z1 : Int32) (z2 : Nat) : go gd_P0 d 36 7 [w0, w1, w2, w3] [.int z0, .int z1, .ref z2] h =
    if gT h z2 = 34 ∧ ¬ (z1 < 0 ∨ gL h z2 ≤ Int32.toNatClampNeg z1) then some (.inl (some (.int 0)), (wJ h (up1 (gJ h) z2 (Int32.toNatClampNeg z1) (Int32.toInt64 z0)))) else none :=
  (x36_7 ..).trans ((x36_8 ..).trans ((gs_if ..).trans (ic9 ((x36_9 ..).trans ((x36_15 ..).trans ((x36_16 ..)))) rfl)))
theorem s36_12 (d : Nat) (h : gd_H) (w0 : Value) (w1 : Value) (w2 : Value) (w3 : Value) (z0 : Nat) : go gd_P0 d 36 12 [w0, w1, w2, w3] [.ref z0] h =
    some (.inl (some (.int 1)), h) :=
  (x36_12 ..).trans ((x36_13 ..).trans ((x36_14 ..)))
theorem r36 (d : Nat) (h : gd_H) (v0 : Nat) (v1 : Int32) (v2 : Nat) : run gd_P0 (d + 1) 36 [.ref v0, .int v1, .ref v2] h = go gd_P0 d 36 0 [.ref v0, .int v1, .ref v2, .null] [] h := run_succ gd_P0 d 36 [.ref v0, .int v1, .ref v2] h (Nat.le_of_ble_eq_true rfl)
theorem x37_0 (d : Nat) (L st : List Value) (h : gd_H) : go gd_P0 d 37 0 L st h = gs gd_P0 d 37 0 L (i_ald 2 1 L st h) := go_eq gd_P0 d 37 0 L st h
theorem x37_1 (d : Nat) (L st : List Value) (h : gd_H) : go gd_P0 d 37 1 L st h = gs gd_P0 d 37 1 L (i_psh (.int 0) 2 L st h) := go_eq gd_P0 d 37 1 L st h
theorem x37_2 (d : Nat) (L st : List Value) (h : gd_H) : go gd_P0 d 37 2 L st h = gs gd_P0 d 37 2 L (i_ald 0 3 L st h) := go_eq gd_P0 d 37 2 L st h
theorem x37_3 (d : Nat) (L st : List Value) (h : gd_H) : go gd_P0 d 37 3 L st h = gs gd_P0 d 37 3 L (i_ild 1 4 L st h) := go_eq gd_P0 d 37 3 L st h
theorem x37_4 (d : Nat) (L st : List Value) (h : gd_H) : go gd_P0 d 37 4 L st h = gs gd_P0 d 37 4 L (i_cV 89 1 1 7 L st h) := go_eq gd_P0 d 37 4 L st h
theorem x37_7 (d : Nat) (L st : List Value) (h : gd_H) : go gd_P0 d 37 7 L st h = gs gd_P0 d 37 7 L (i_msk [false, false, false, false] (i_i2l 8) L st h) := go_eq gd_P0 d 37 7 L st h
theorem x37_8 (d : Nat) (L st : List Value) (h : gd_H) : go gd_P0 d 37 8 L st h = gs gd_P0 d 37 8 L (i_astJ 9 L st h) := go_eq gd_P0 d 37 8 L st h
theorem x37_9 (d : Nat) (L st : List Value) (h : gd_H) : go gd_P0 d 37 9 L st h = gs gd_P0 d 37 9 L (i_goto 15 L st h) := go_eq gd_P0 d 37 9 L st h
theorem x37_12 (d : Nat) (L st : List Value) (h : gd_H) : go gd_P0 d 37 12 L st h = gs gd_P0 d 37 12 L (i_msk [false, false, false, false] (i_ast 3 13) L st h) := go_eq gd_P0 d 37 12 L st h
theorem x37_13 (d : Nat) (L st : List Value) (h : gd_H) : go gd_P0 d 37 13 L st h = gs gd_P0 d 37 13 L (i_psh (.int 1) 14 L st h) := go_eq gd_P0 d 37 13 L st h
theorem x37_14 (d : Nat) (L st : List Value) (h : gd_H) : go gd_P0 d 37 14 L st h = gs gd_P0 d 37 14 L (i_iret L st h) := go_eq gd_P0 d 37 14 L st h
theorem x37_15 (d : Nat) (L st : List Value) (h : gd_H) : go gd_P0 d 37 15 L st h = gs gd_P0 d 37 15 L (i_psh (.int 0) 16 L st h) := go_eq gd_P0 d 37 15 L st h
theorem x37_16 (d : Nat) (L st : List Value) (h : gd_H) : go gd_P0 d 37 16 L st h = gs gd_P0 d 37 16 L (i_iret L st h) := go_eq gd_P0 d 37 16 L st h
theorem s37_0 (d : Nat) (h : gd_H) (v0 : Nat) (v1 : Int32) (v2 : Nat) : go gd_P0 d 37 0 [.ref v0, .int v1, .ref v2, .null] [] h =
    if gT h v0 = 1 then gc gd_P0 d 37 4 7 [.ref v0, .int v1, .ref v2, .null] [.int 0, .ref v2] (run gd_P0 d 89 [.ref v0, .int v1] h) else none :=
  (x37_0 ..).trans ((x37_1 ..).trans ((x37_2 ..).trans ((x37_3 ..).trans ((x37_4 ..).trans ((gs_if ..).trans ((ia9 (by simp)).trans (ic9 rfl rfl)))))))
theorem s37_7 (d : Nat) (h : gd_H) (w0 : Value) (w1 : Value) (w2 : Value) (w3 : Value) (z0 : Int32) (z1 : Int32) (z2 : Nat) : go gd_P0 d 37 7 [w0, w1, w2, w3] [.int z0, .int z1, .ref z2] h =
    if gT h z2 = 34 ∧ ¬ (z1 < 0 ∨ gL h z2 ≤ Int32.toNatClampNeg z1) then some (.inl (some (.int 0)), (wJ h (up1 (gJ h) z2 (Int32.toNatClampNeg z1) (Int32.toInt64 z0)))) else none :=
  (x37_7 ..).trans ((x37_8 ..).trans ((gs_if ..).trans (ic9 ((x37_9 ..).trans ((x37_15 ..).trans ((x37_16 ..)))) rfl)))
theorem s37_12 (d : Nat) (h : gd_H) (w0 : Value) (w1 : Value) (w2 : Value) (w3 : Value) (z0 : Nat) : go gd_P0 d 37 12 [w0, w1, w2, w3] [.ref z0] h =
    some (.inl (some (.int 1)), h) :=
  (x37_12 ..).trans ((x37_13 ..).trans ((x37_14 ..)))
theorem r37 (d : Nat) (h : gd_H) (v0 : Nat) (v1 : Int32) (v2 : Nat) : run gd_P0 (d + 1) 37 [.ref v0, .int v1, .ref v2] h = go gd_P0 d 37 0 [.ref v0, .int v1, .ref v2, .null] [] h := run_succ gd_P0 d 37 [.ref v0, .int v1, .ref v2] h (Nat.le_of_ble_eq_true rfl)
theorem x38_0 (d : Nat) (L st : List Value) (h : gd_H) : go gd_P0 d 38 0 L st h = gs gd_P0 d 38 0 L (i_ald 2 1 L st h) := go_eq gd_P0 d 38 0 L st h
theorem x38_1 (d : Nat) (L st : List Value) (h : gd_H) : go gd_P0 d 38 1 L st h = gs gd_P0 d 38 1 L (i_psh (.int 0) 2 L st h) := go_eq gd_P0 d 38 1 L st h
theorem x38_2 (d : Nat) (L st : List Value) (h : gd_H) : go gd_P0 d 38 2 L st h = gs gd_P0 d 38 2 L (i_ald 0 3 L st h) := go_eq gd_P0 d 38 2 L st h
theorem x38_3 (d : Nat) (L st : List Value) (h : gd_H) : go gd_P0 d 38 3 L st h = gs gd_P0 d 38 3 L (i_ild 1 4 L st h) := go_eq gd_P0 d 38 3 L st h
theorem x38_4 (d : Nat) (L st : List Value) (h : gd_H) : go gd_P0 d 38 4 L st h = gs gd_P0 d 38 4 L (i_cV 90 1 1 7 L st h) := go_eq gd_P0 d 38 4 L st h
theorem x38_7 (d : Nat) (L st : List Value) (h : gd_H) : go gd_P0 d 38 7 L st h = gs gd_P0 d 38 7 L (i_msk [false, false, false, false] (i_i2l 8) L st h) := go_eq gd_P0 d 38 7 L st h
theorem x38_8 (d : Nat) (L st : List Value) (h : gd_H) : go gd_P0 d 38 8 L st h = gs gd_P0 d 38 8 L (i_astJ 9 L st h) := go_eq gd_P0 d 38 8 L st h
theorem x38_9 (d : Nat) (L st : List Value) (h : gd_H) : go gd_P0 d 38 9 L st h = gs gd_P0 d 38 9 L (i_goto 15 L st h) := go_eq gd_P0 d 38 9 L st h
theorem x38_12 (d : Nat) (L st : List Value) (h : gd_H) : go gd_P0 d 38 12 L st h = gs gd_P0 d 38 12 L (i_msk [false, false, false, false] (i_ast 3 13) L st h) := go_eq gd_P0 d 38 12 L st h
theorem x38_13 (d : Nat) (L st : List Value) (h : gd_H) : go gd_P0 d 38 13 L st h = gs gd_P0 d 38 13 L (i_psh (.int 1) 14 L st h) := go_eq gd_P0 d 38 13 L st h
theorem x38_14 (d : Nat) (L st : List Value) (h : gd_H) : go gd_P0 d 38 14 L st h = gs gd_P0 d 38 14 L (i_iret L st h) := go_eq gd_P0 d 38 14 L st h
theorem x38_15 (d : Nat) (L st : List Value) (h : gd_H) : go gd_P0 d 38 15 L st h = gs gd_P0 d 38 15 L (i_psh (.int 0) 16 L st h) := go_eq gd_P0 d 38 15 L st h
theorem x38_16 (d : Nat) (L st : List Value) (h : gd_H) : go gd_P0 d 38 16 L st h = gs gd_P0 d 38 16 L (i_iret L st h) := go_eq gd_P0 d 38 16 L st h
theorem s38_0 (d : Nat) (h : gd_H) (v0 : Nat) (v1 : Int32) (v2 : Nat) : go gd_P0 d 38 0 [.ref v0, .int v1, .ref v2, .null] [] h =
    if gT h v0 = 1 then gc gd_P0 d 38 4 7 [.ref v0, .int v1, .ref v2, .null] [.int 0, .ref v2] (run gd_P0 d 90 [.ref v0, .int v1] h) else none :=
  (x38_0 ..).trans ((x38_1 ..).trans ((x38_2 ..).trans ((x38_3 ..).trans ((x38_4 ..).trans ((gs_if ..).trans ((ia9 (by simp)).trans (ic9 rfl rfl)))))))
theorem s38_7 (d : Nat) (h : gd_H) (w0 : Value) (w1 : Value) (w2 : Value) (w3 : Value) (z0 : Int32) (z1 : Int32) (z2 : Nat) : go gd_P0 d 38 7 [w0, w1, w2, w3] [.int z0, .int z1, .ref z2] h =
    if gT h z2 = 34 ∧ ¬ (z1 < 0 ∨ gL h z2 ≤ Int32.toNatClampNeg z1) then some (.inl (some (.int 0)), (wJ h (up1 (gJ h) z2 (Int32.toNatClampNeg z1) (Int32.toInt64 z0)))) else none :=
  (x38_7 ..).trans ((x38_8 ..).trans ((gs_if ..).trans (ic9 ((x38_9 ..).trans ((x38_15 ..).trans ((x38_16 ..)))) rfl)))
theorem s38_12 (d : Nat) (h : gd_H) (w0 : Value) (w1 : Value) (w2 : Value) (w3 : Value) (z0 : Nat) : go gd_P0 d 38 12 [w0, w1, w2, w3] [.ref z0] h =
    some (.inl (some (.int 1)), h) :=
  (x38_12 ..).trans ((x38_13 ..).trans ((x38_14 ..)))
theorem r38 (d : Nat) (h : gd_H) (v0 : Nat) (v1 : Int32) (v2 : Nat) : run gd_P0 (d + 1) 38 [.ref v0, .int v1, .ref v2] h = go gd_P0 d 38 0 [.ref v0, .int v1, .ref v2, .null] [] h := run_succ gd_P0 d 38 [.ref v0, .int v1, .ref v2] h (Nat.le_of_ble_eq_true rfl)
theorem x39_0 (d : Nat) (L st : List Value) (h : gd_H) : go gd_P0 d 39 0 L st h = gs gd_P0 d 39 0 L (i_ald 5 2 L st h) := go_eq gd_P0 d 39 0 L st h
theorem x39_2 (d : Nat) (L st : List Value) (h : gd_H) : go gd_P0 d 39 2 L st h = gs gd_P0 d 39 2 L (i_psh (.int 0) 3 L st h) := go_eq gd_P0 d 39 2 L st h
theorem x39_3 (d : Nat) (L st : List Value) (h : gd_H) : go gd_P0 d 39 3 L st h = gs gd_P0 d 39 3 L (i_ald 0 4 L st h) := go_eq gd_P0 d 39 3 L st h
theorem x39_4 (d : Nat) (L st : List Value) (h : gd_H) : go gd_P0 d 39 4 L st h = gs gd_P0 d 39 4 L (i_ild 1 5 L st h) := go_eq gd_P0 d 39 4 L st h
theorem x39_5 (d : Nat) (L st : List Value) (h : gd_H) : go gd_P0 d 39 5 L st h = gs gd_P0 d 39 5 L (i_ild 2 6 L st h) := go_eq gd_P0 d 39 5 L st h
theorem x39_6 (d : Nat) (L st : List Value) (h : gd_H) : go gd_P0 d 39 6 L st h = gs gd_P0 d 39 6 L (i_ild 3 7 L st h) := go_eq gd_P0 d 39 6 L st h
theorem x39_7 (d : Nat) (L st : List Value) (h : gd_H) : go gd_P0 d 39 7 L st h = gs gd_P0 d 39 7 L (i_ild 4 9 L st h) := go_eq gd_P0 d 39 7 L st h
theorem x39_9 (d : Nat) (L st : List Value) (h : gd_H) : go gd_P0 d 39 9 L st h = gs gd_P0 d 39 9 L (i_cV 91 4 1 12 L st h) := go_eq gd_P0 d 39 9 L st h
theorem x39_12 (d : Nat) (L st : List Value) (h : gd_H) : go gd_P0 d 39 12 L st h = gs gd_P0 d 39 12 L (i_msk [false, false, false, false, false, false, false] (i_i2l 13) L st h) := go_eq gd_P0 d 39 12 L st h
theorem x39_13 (d : Nat) (L st : List Value) (h : gd_H) : go gd_P0 d 39 13 L st h = gs gd_P0 d 39 13 L (i_astJ 14 L st h) := go_eq gd_P0 d 39 13 L st h
theorem x39_14 (d : Nat) (L st : List Value) (h : gd_H) : go gd_P0 d 39 14 L st h = gs gd_P0 d 39 14 L (i_goto 21 L st h) := go_eq gd_P0 d 39 14 L st h
theorem x39_17 (d : Nat) (L st : List Value) (h : gd_H) : go gd_P0 d 39 17 L st h = gs gd_P0 d 39 17 L (i_msk [false, false, false, false, false, false, false] (i_ast 6 19) L st h) := go_eq gd_P0 d 39 17 L st h
theorem x39_19 (d : Nat) (L st : List Value) (h : gd_H) : go gd_P0 d 39 19 L st h = gs gd_P0 d 39 19 L (i_psh (.int 1) 20 L st h) := go_eq gd_P0 d 39 19 L st h
theorem x39_20 (d : Nat) (L st : List Value) (h : gd_H) : go gd_P0 d 39 20 L st h = gs gd_P0 d 39 20 L (i_iret L st h) := go_eq gd_P0 d 39 20 L st h
theorem x39_21 (d : Nat) (L st : List Value) (h : gd_H) : go gd_P0 d 39 21 L st h = gs gd_P0 d 39 21 L (i_psh (.int 0) 22 L st h) := go_eq gd_P0 d 39 21 L st h
theorem x39_22 (d : Nat) (L st : List Value) (h : gd_H) : go gd_P0 d 39 22 L st h = gs gd_P0 d 39 22 L (i_iret L st h) := go_eq gd_P0 d 39 22 L st h
theorem s39_0 (d : Nat) (h : gd_H) (v0 : Nat) (v1 : Int32) (v2 : Int32) (v3 : Int32) (v4 : Int32) (v5 : Nat) : go gd_P0 d 39 0 [.ref v0, .int v1, .int v2, .int v3, .int v4, .ref v5, .null] [] h =
    if gT h v0 = 1 then gc gd_P0 d 39 9 12 [.ref v0, .int v1, .int v2, .int v3, .int v4, .ref v5, .null] [.int 0, .ref v5] (run gd_P0 d 91 [.ref v0, .int v1, .int v2, .int v3, .int v4] h) else none :=
  (x39_0 ..).trans ((x39_2 ..).trans ((x39_3 ..).trans ((x39_4 ..).trans ((x39_5 ..).trans ((x39_6 ..).trans ((x39_7 ..).trans ((x39_9 ..).trans ((gs_if ..).trans ((ia9 (by simp)).trans (ic9 rfl rfl))))))))))
theorem s39_12 (d : Nat) (h : gd_H) (w0 : Value) (w1 : Value) (w2 : Value) (w3 : Value) (w4 : Value) (w5 : Value) (w6 : Value) (z0 : Int32) (z1 : Int32) (z2 : Nat) : go gd_P0 d 39 12 [w0, w1, w2, w3, w4, w5, w6] [.int z0, .int z1, .ref z2] h =
    if gT h z2 = 34 ∧ ¬ (z1 < 0 ∨ gL h z2 ≤ Int32.toNatClampNeg z1) then some (.inl (some (.int 0)), (wJ h (up1 (gJ h) z2 (Int32.toNatClampNeg z1) (Int32.toInt64 z0)))) else none :=
  (x39_12 ..).trans ((x39_13 ..).trans ((gs_if ..).trans (ic9 ((x39_14 ..).trans ((x39_21 ..).trans ((x39_22 ..)))) rfl)))
theorem s39_17 (d : Nat) (h : gd_H) (w0 : Value) (w1 : Value) (w2 : Value) (w3 : Value) (w4 : Value) (w5 : Value) (w6 : Value) (z0 : Nat) : go gd_P0 d 39 17 [w0, w1, w2, w3, w4, w5, w6] [.ref z0] h =
    some (.inl (some (.int 1)), h) :=
  (x39_17 ..).trans ((x39_19 ..).trans ((x39_20 ..)))
theorem r39 (d : Nat) (h : gd_H) (v0 : Nat) (v1 : Int32) (v2 : Int32) (v3 : Int32) (v4 : Int32) (v5 : Nat) : run gd_P0 (d + 1) 39 [.ref v0, .int v1, .int v2, .int v3, .int v4, .ref v5] h = go gd_P0 d 39 0 [.ref v0, .int v1, .int v2, .int v3, .int v4, .ref v5, .null] [] h := run_succ gd_P0 d 39 [.ref v0, .int v1, .int v2, .int v3, .int v4, .ref v5] h (Nat.le_of_ble_eq_true rfl)
theorem x40_0 (d : Nat) (L st : List Value) (h : gd_H) : go gd_P0 d 40 0 L st h = gs gd_P0 d 40 0 L (i_ald 7 2 L st h) := go_eq gd_P0 d 40 0 L st h
theorem x40_2 (d : Nat) (L st : List Value) (h : gd_H) : go gd_P0 d 40 2 L st h = gs gd_P0 d 40 2 L (i_psh (.int 0) 3 L st h) := go_eq gd_P0 d 40 2 L st h
theorem x40_3 (d : Nat) (L st : List Value) (h : gd_H) : go gd_P0 d 40 3 L st h = gs gd_P0 d 40 3 L (i_ald 0 4 L st h) := go_eq gd_P0 d 40 3 L st h
theorem x40_4 (d : Nat) (L st : List Value) (h : gd_H) : go gd_P0 d 40 4 L st h = gs gd_P0 d 40 4 L (i_ild 1 5 L st h) := go_eq gd_P0 d 40 4 L st h
theorem x40_5 (d : Nat) (L st : List Value) (h : gd_H) : go gd_P0 d 40 5 L st h = gs gd_P0 d 40 5 L (i_ild 2 6 L st h) := go_eq gd_P0 d 40 5 L st h
theorem x40_6 (d : Nat) (L st : List Value) (h : gd_H) : go gd_P0 d 40 6 L st h = gs gd_P0 d 40 6 L (i_ild 3 7 L st h) := go_eq gd_P0 d 40 6 L st h
theorem x40_7 (d : Nat) (L st : List Value) (h : gd_H) : go gd_P0 d 40 7 L st h = gs gd_P0 d 40 7 L (i_ild 4 9 L st h) := go_eq gd_P0 d 40 7 L st h
theorem x40_9 (d : Nat) (L st : List Value) (h : gd_H) : go gd_P0 d 40 9 L st h = gs gd_P0 d 40 9 L (i_ild 5 11 L st h) := go_eq gd_P0 d 40 9 L st h
theorem x40_11 (d : Nat) (L st : List Value) (h : gd_H) : go gd_P0 d 40 11 L st h = gs gd_P0 d 40 11 L (i_ild 6 13 L st h) := go_eq gd_P0 d 40 11 L st h
theorem x40_13 (d : Nat) (L st : List Value) (h : gd_H) : go gd_P0 d 40 13 L st h = gs gd_P0 d 40 13 L (i_cV 95 6 1 16 L st h) := go_eq gd_P0 d 40 13 L st h
theorem x40_16 (d : Nat) (L st : List Value) (h : gd_H) : go gd_P0 d 40 16 L st h = gs gd_P0 d 40 16 L (i_msk [false, false, false, false, false, false, false, false, false] (i_i2l 17) L st h) := go_eq gd_P0 d 40 16 L st h
theorem x40_17 (d : Nat) (L st : List Value) (h : gd_H) : go gd_P0 d 40 17 L st h = gs gd_P0 d 40 17 L (i_astJ 18 L st h) := go_eq gd_P0 d 40 17 L st h
theorem x40_18 (d : Nat) (L st : List Value) (h : gd_H) : go gd_P0 d 40 18 L st h = gs gd_P0 d 40 18 L (i_goto 25 L st h) := go_eq gd_P0 d 40 18 L st h
theorem x40_21 (d : Nat) (L st : List Value) (h : gd_H) : go gd_P0 d 40 21 L st h = gs gd_P0 d 40 21 L (i_msk [false, false, false, false, false, false, false, false, false] (i_ast 8 23) L st h) := go_eq gd_P0 d 40 21 L st h
theorem x40_23 (d : Nat) (L st : List Value) (h : gd_H) : go gd_P0 d 40 23 L st h = gs gd_P0 d 40 23 L (i_psh (.int 1) 24 L st h) := go_eq gd_P0 d 40 23 L st h
theorem x40_24 (d : Nat) (L st : List Value) (h : gd_H) : go gd_P0 d 40 24 L st h = gs gd_P0 d 40 24 L (i_iret L st h) := go_eq gd_P0 d 40 24 L st h
theorem x40_25 (d : Nat) (L st : List Value) (h : gd_H) : go gd_P0 d 40 25 L st h = gs gd_P0 d 40 25 L (i_psh (.int 0) 26 L st h) := go_eq gd_P0 d 40 25 L st h
theorem x40_26 (d : Nat) (L st : List Value) (h : gd_H) : go gd_P0 d 40 26 L st h = gs gd_P0 d 40 26 L (i_iret L st h) := go_eq gd_P0 d 40 26 L st h
theorem s40_0 (d : Nat) (h : gd_H) (v0 : Nat) (v1 : Int32) (v2 : Int32) (v3 : Int32) (v4 : Int32) (v5 : Int32) (v6 : Int32) (v7 : Nat) : go gd_P0 d 40 0 [.ref v0, .int v1, .int v2, .int v3, .int v4, .int v5, .int v6, .ref v7, .null] [] h =
    if gT h v0 = 1 then gc gd_P0 d 40 13 16 [.ref v0, .int v1, .int v2, .int v3, .int v4, .int v5, .int v6, .ref v7, .null] [.int 0, .ref v7] (run gd_P0 d 95 [.ref v0, .int v1, .int v2, .int v3, .int v4, .int v5, .int v6] h) else none :=
  (x40_0 ..).trans ((x40_2 ..).trans ((x40_3 ..).trans ((x40_4 ..).trans ((x40_5 ..).trans ((x40_6 ..).trans ((x40_7 ..).trans ((x40_9 ..).trans ((x40_11 ..).trans ((x40_13 ..).trans ((gs_if ..).trans ((ia9 (by simp)).trans (ic9 rfl rfl))))))))))))
theorem s40_16 (d : Nat) (h : gd_H) (w0 : Value) (w1 : Value) (w2 : Value) (w3 : Value) (w4 : Value) (w5 : Value) (w6 : Value) (w7 : Value) (w8 : Value) (z0 : Int32) (z1 : Int32) (z2 : Nat) : go gd_P0 d 40 16 [w0, w1, w2, w3, w4, w5, w6, w7, w8] [.int z0, .int z1, .ref z2] h =
    if gT h z2 = 34 ∧ ¬ (z1 < 0 ∨ gL h z2 ≤ Int32.toNatClampNeg z1) then some (.inl (some (.int 0)), (wJ h (up1 (gJ h) z2 (Int32.toNatClampNeg z1) (Int32.toInt64 z0)))) else none :=
  (x40_16 ..).trans ((x40_17 ..).trans ((gs_if ..).trans (ic9 ((x40_18 ..).trans ((x40_25 ..).trans ((x40_26 ..)))) rfl)))
theorem s40_21 (d : Nat) (h : gd_H) (w0 : Value) (w1 : Value) (w2 : Value) (w3 : Value) (w4 : Value) (w5 : Value) (w6 : Value) (w7 : Value) (w8 : Value) (z0 : Nat) : go gd_P0 d 40 21 [w0, w1, w2, w3, w4, w5, w6, w7, w8] [.ref z0] h =
    some (.inl (some (.int 1)), h) :=
  (x40_21 ..).trans ((x40_23 ..).trans ((x40_24 ..)))
theorem r40 (d : Nat) (h : gd_H) (v0 : Nat) (v1 : Int32) (v2 : Int32) (v3 : Int32) (v4 : Int32) (v5 : Int32) (v6 : Int32) (v7 : Nat) : run gd_P0 (d + 1) 40 [.ref v0, .int v1, .int v2, .int v3, .int v4, .int v5, .int v6, .ref v7] h = go gd_P0 d 40 0 [.ref v0, .int v1, .int v2, .int v3, .int v4, .int v5, .int v6, .ref v7, .null] [] h := run_succ gd_P0 d 40 [.ref v0, .int v1, .int v2, .int v3, .int v4, .int v5, .int v6, .ref v7] h (Nat.le_of_ble_eq_true rfl)
theorem x96_0 (d : Nat) (L st : List Value) (h : gd_H) : go gd_P0 d 96 0 L st h = gs gd_P0 d 96 0 L (i_ald 0 1 L st h) := go_eq gd_P0 d 96 0 L st h
theorem x96_1 (d : Nat) (L st : List Value) (h : gd_H) : go gd_P0 d 96 1 L st h = gs gd_P0 d 96 1 L (i_oin 4 L st h) := go_eq gd_P0 d 96 1 L st h
theorem x96_4 (d : Nat) (L st : List Value) (h : gd_H) : go gd_P0 d 96 4 L st h = gs gd_P0 d 96 4 L (i_msk [true, true, true] (i_ald 0 5) L st h) := go_eq gd_P0 d 96 4 L st h
theorem x96_5 (d : Nat) (L st : List Value) (h : gd_H) : go gd_P0 d 96 5 L st h = gs gd_P0 d 96 5 L (i_ald 1 6 L st h) := go_eq gd_P0 d 96 5 L st h
theorem x96_6 (d : Nat) (L st : List Value) (h : gd_H) : go gd_P0 d 96 6 L st h = gs gd_P0 d 96 6 L (i_putR 10 0 9 L st h) := go_eq gd_P0 d 96 6 L st h
theorem x96_9 (d : Nat) (L st : List Value) (h : gd_H) : go gd_P0 d 96 9 L st h = gs gd_P0 d 96 9 L (i_ald 0 10 L st h) := go_eq gd_P0 d 96 9 L st h
theorem x96_10 (d : Nat) (L st : List Value) (h : gd_H) : go gd_P0 d 96 10 L st h = gs gd_P0 d 96 10 L (i_ild 2 11 L st h) := go_eq gd_P0 d 96 10 L st h
theorem x96_11 (d : Nat) (L st : List Value) (h : gd_H) : go gd_P0 d 96 11 L st h = gs gd_P0 d 96 11 L (i_putI 10 1 14 L st h) := go_eq gd_P0 d 96 11 L st h
theorem x96_14 (d : Nat) (L st : List Value) (h : gd_H) : go gd_P0 d 96 14 L st h = gs gd_P0 d 96 14 L (i_ret L st h) := go_eq gd_P0 d 96 14 L st h
theorem s96_0 (d : Nat) (h : gd_H) (v0 : Nat) (v1 : Nat) (v2 : Int32) : go gd_P0 d 96 0 [.ref v0, .ref v1, .int v2] [] h =
    if 4 ≤ v0 then go gd_P0 d 96 4 [.ref v0, .ref v1, .int v2] [] h else none :=
  (x96_0 ..).trans ((x96_1 ..).trans ((gs_if ..).trans ((ia9 (by simp)).trans (ic9 (rfl) rfl))))
theorem s96_4 (d : Nat) (h : gd_H) (v0 : Nat) (v1 : Nat) (v2 : Int32) : go gd_P0 d 96 4 [.ref v0, .ref v1, .int v2] [] h =
    if gT h v0 = 10 then if gT h v0 = 10 then some (.inl none, (wR (wI h (up1 (gI h) v0 1 v2)) (up1 (gR h) v0 0 v1))) else none else none :=
  (x96_4 ..).trans ((x96_5 ..).trans ((x96_6 ..).trans ((gs_if ..).trans (ic9 ((x96_9 ..).trans ((x96_10 ..).trans ((x96_11 ..).trans ((gs_if ..).trans (ic9 ((x96_14 ..)) rfl))))) rfl))))
theorem r96 (d : Nat) (h : gd_H) (v0 : Nat) (v1 : Nat) (v2 : Int32) : run gd_P0 (d + 1) 96 [.ref v0, .ref v1, .int v2] h = go gd_P0 d 96 0 [.ref v0, .ref v1, .int v2] [] h := run_succ gd_P0 d 96 [.ref v0, .ref v1, .int v2] h (Nat.le_of_ble_eq_true rfl)
theorem x97_0 (d : Nat) (L st : List Value) (h : gd_H) : go gd_P0 d 97 0 L st h = gs gd_P0 d 97 0 L (i_msk [true] (i_ald 0 1) L st h) := go_eq gd_P0 d 97 0 L st h
theorem x97_1 (d : Nat) (L st : List Value) (h : gd_H) : go gd_P0 d 97 1 L st h = gs gd_P0 d 97 1 L (i_ald 0 2 L st h) := go_eq gd_P0 d 97 1 L st h
theorem x97_2 (d : Nat) (L st : List Value) (h : gd_H) : go gd_P0 d 97 2 L st h = gs gd_P0 d 97 2 L (i_getI 10 2 5 L st h) := go_eq gd_P0 d 97 2 L st h
theorem x97_5 (d : Nat) (L st : List Value) (h : gd_H) : go gd_P0 d 97 5 L st h = gs gd_P0 d 97 5 L (i_cV 98 1 10 8 L st h) := go_eq gd_P0 d 97 5 L st h
theorem x97_8 (d : Nat) (L st : List Value) (h : gd_H) : go gd_P0 d 97 8 L st h = gs gd_P0 d 97 8 L (i_msk [true] (i_psh (.int 32) 10) L st h) := go_eq gd_P0 d 97 8 L st h
theorem x97_10 (d : Nat) (L st : List Value) (h : gd_H) : go gd_P0 d 97 10 L st h = gs gd_P0 d 97 10 L (i_icne 26 13 L st h) := go_eq gd_P0 d 97 10 L st h
theorem x97_13 (d : Nat) (L st : List Value) (h : gd_H) : go gd_P0 d 97 13 L st h = gs gd_P0 d 97 13 L (i_ald 0 14 L st h) := go_eq gd_P0 d 97 13 L st h
theorem x97_14 (d : Nat) (L st : List Value) (h : gd_H) : go gd_P0 d 97 14 L st h = gs gd_P0 d 97 14 L (i_dup 15 L st h) := go_eq gd_P0 d 97 14 L st h
theorem x97_15 (d : Nat) (L st : List Value) (h : gd_H) : go gd_P0 d 97 15 L st h = gs gd_P0 d 97 15 L (i_getI 10 2 18 L st h) := go_eq gd_P0 d 97 15 L st h
theorem x97_18 (d : Nat) (L st : List Value) (h : gd_H) : go gd_P0 d 97 18 L st h = gs gd_P0 d 97 18 L (i_psh (.int 1) 19 L st h) := go_eq gd_P0 d 97 18 L st h
theorem x97_19 (d : Nat) (L st : List Value) (h : gd_H) : go gd_P0 d 97 19 L st h = gs gd_P0 d 97 19 L (i_iadd 20 L st h) := go_eq gd_P0 d 97 19 L st h
theorem x97_20 (d : Nat) (L st : List Value) (h : gd_H) : go gd_P0 d 97 20 L st h = gs gd_P0 d 97 20 L (i_putI 10 2 23 L st h) := go_eq gd_P0 d 97 20 L st h
theorem x97_23 (d : Nat) (L st : List Value) (h : gd_H) : go gd_P0 d 97 23 L st h = gs gd_P0 d 97 23 L (i_goto 0 L st h) := go_eq gd_P0 d 97 23 L st h
theorem x97_26 (d : Nat) (L st : List Value) (h : gd_H) : go gd_P0 d 97 26 L st h = gs gd_P0 d 97 26 L (i_ald 0 27 L st h) := go_eq gd_P0 d 97 26 L st h
theorem x97_27 (d : Nat) (L st : List Value) (h : gd_H) : go gd_P0 d 97 27 L st h = gs gd_P0 d 97 27 L (i_ald 0 28 L st h) := go_eq gd_P0 d 97 27 L st h
theorem x97_28 (d : Nat) (L st : List Value) (h : gd_H) : go gd_P0 d 97 28 L st h = gs gd_P0 d 97 28 L (i_getI 10 2 31 L st h) := go_eq gd_P0 d 97 28 L st h
theorem x97_31 (d : Nat) (L st : List Value) (h : gd_H) : go gd_P0 d 97 31 L st h = gs gd_P0 d 97 31 L (i_cV 98 1 10 34 L st h) := go_eq gd_P0 d 97 31 L st h
theorem x97_34 (d : Nat) (L st : List Value) (h : gd_H) : go gd_P0 d 97 34 L st h = gs gd_P0 d 97 34 L (i_msk [false] (i_iret) L st h) := go_eq gd_P0 d 97 34 L st h
theorem s97_0 (d : Nat) (h : gd_H) (v0 : Nat) : go gd_P0 d 97 0 [.ref v0] [] h =
    if gT h v0 = 10 then if gT h v0 = 10 then gc gd_P0 d 97 5 8 [.ref v0] [] (run gd_P0 d 98 [.ref v0, .int (gI h v0 2)] h) else none else none :=
  (x97_0 ..).trans ((x97_1 ..).trans ((x97_2 ..).trans ((gs_if ..).trans (ic9 ((x97_5 ..).trans ((gs_if ..).trans ((ia9 (by simp)).trans (ic9 rfl rfl)))) rfl))))
theorem s97_8 (d : Nat) (h : gd_H) (v0 : Nat) (z0 : Int32) : go gd_P0 d 97 8 [.ref v0] [.int z0] h =
    if z0 = 32 then if gT h v0 = 10 then if gT h v0 = 10 then go gd_P0 d 97 0 [.ref v0] [] (wI h (up1 (gI h) v0 2 ((gI h v0 2) + 1))) else none else none else if gT h v0 = 10 then if gT h v0 = 10 then gc gd_P0 d 97 31 34 [.ref v0] [] (run gd_P0 d 98 [.ref v0, .int (gI h v0 2)] h) else none else none :=
  (x97_8 ..).trans ((x97_10 ..).trans ((gs_if ..).trans (ic9 ((x97_13 ..).trans ((x97_14 ..).trans ((x97_15 ..).trans ((gs_if ..).trans (ic9 ((x97_18 ..).trans ((x97_19 ..).trans ((x97_20 ..).trans ((gs_if ..).trans (ic9 ((x97_23 ..)) rfl))))) rfl))))) ((x97_26 ..).trans ((x97_27 ..).trans ((x97_28 ..).trans ((gs_if ..).trans (ic9 ((x97_31 ..).trans ((gs_if ..).trans ((ia9 (by simp)).trans (ic9 rfl rfl)))) rfl))))))))
theorem s97_34 (d : Nat) (h : gd_H) (w0 : Value) (z0 : Int32) : go gd_P0 d 97 34 [w0] [.int z0] h =
    some (.inl (some (.int z0)), h) :=
  (x97_34 ..)
theorem r97 (d : Nat) (h : gd_H) (v0 : Nat) : run gd_P0 (d + 1) 97 [.ref v0] h = go gd_P0 d 97 0 [.ref v0] [] h := run_succ gd_P0 d 97 [.ref v0] h (Nat.le_of_ble_eq_true rfl)
theorem x98_0 (d : Nat) (L st : List Value) (h : gd_H) : go gd_P0 d 98 0 L st h = gs gd_P0 d 98 0 L (i_ild 1 1 L st h) := go_eq gd_P0 d 98 0 L st h
theorem x98_1 (d : Nat) (L st : List Value) (h : gd_H) : go gd_P0 d 98 1 L st h = gs gd_P0 d 98 1 L (i_ald 0 2 L st h) := go_eq gd_P0 d 98 1 L st h
theorem x98_2 (d : Nat) (L st : List Value) (h : gd_H) : go gd_P0 d 98 2 L st h = gs gd_P0 d 98 2 L (i_getI 10 1 5 L st h) := go_eq gd_P0 d 98 2 L st h
theorem x98_5 (d : Nat) (L st : List Value) (h : gd_H) : go gd_P0 d 98 5 L st h = gs gd_P0 d 98 5 L (i_icge 21 8 L st h) := go_eq gd_P0 d 98 5 L st h
theorem x98_8 (d : Nat) (L st : List Value) (h : gd_H) : go gd_P0 d 98 8 L st h = gs gd_P0 d 98 8 L (i_ald 0 9 L st h) := go_eq gd_P0 d 98 8 L st h
theorem x98_9 (d : Nat) (L st : List Value) (h : gd_H) : go gd_P0 d 98 9 L st h = gs gd_P0 d 98 9 L (i_getR 10 0 12 L st h) := go_eq gd_P0 d 98 9 L st h
theorem x98_12 (d : Nat) (L st : List Value) (h : gd_H) : go gd_P0 d 98 12 L st h = gs gd_P0 d 98 12 L (i_ild 1 13 L st h) := go_eq gd_P0 d 98 12 L st h
theorem x98_13 (d : Nat) (L st : List Value) (h : gd_H) : go gd_P0 d 98 13 L st h = gs gd_P0 d 98 13 L (i_aldI 32 14 L st h) := go_eq gd_P0 d 98 13 L st h
theorem x98_14 (d : Nat) (L st : List Value) (h : gd_H) : go gd_P0 d 98 14 L st h = gs gd_P0 d 98 14 L (i_psh (.int 255) 17 L st h) := go_eq gd_P0 d 98 14 L st h
theorem x98_17 (d : Nat) (L st : List Value) (h : gd_H) : go gd_P0 d 98 17 L st h = gs gd_P0 d 98 17 L (i_iand 18 L st h) := go_eq gd_P0 d 98 17 L st h
theorem x98_18 (d : Nat) (L st : List Value) (h : gd_H) : go gd_P0 d 98 18 L st h = gs gd_P0 d 98 18 L (i_goto 22 L st h) := go_eq gd_P0 d 98 18 L st h
theorem x98_21 (d : Nat) (L st : List Value) (h : gd_H) : go gd_P0 d 98 21 L st h = gs gd_P0 d 98 21 L (i_psh (.int (-1)) 22 L st h) := go_eq gd_P0 d 98 21 L st h
theorem x98_22 (d : Nat) (L st : List Value) (h : gd_H) : go gd_P0 d 98 22 L st h = gs gd_P0 d 98 22 L (i_msk [false, false] (i_iret) L st h) := go_eq gd_P0 d 98 22 L st h
theorem s98_0 (d : Nat) (h : gd_H) (v0 : Nat) (v1 : Int32) : go gd_P0 d 98 0 [.ref v0, .int v1] [] h =
    if gT h v0 = 10 then if (gI h v0 1) ≤ v1 then go gd_P0 d 98 22 [.ref v0, .int v1] [.int (-1)] h else if gT h v0 = 10 then if gT h (gR h v0 0) = 32 ∧ ¬ (v1 < 0 ∨ gL h (gR h v0 0) ≤ Int32.toNatClampNeg v1) then go gd_P0 d 98 22 [.ref v0, .int v1] [.int ((gI h (gR h v0 0) (Int32.toNatClampNeg v1)) &&& (255 : Int32))] h else none else none else none :=
  (x98_0 ..).trans ((x98_1 ..).trans ((x98_2 ..).trans ((gs_if ..).trans (ic9 ((x98_5 ..).trans ((gs_if ..).trans (ic9 ((x98_21 ..)) ((x98_8 ..).trans ((x98_9 ..).trans ((gs_if ..).trans (ic9 ((x98_12 ..).trans ((x98_13 ..).trans ((gs_if ..).trans (ic9 ((x98_14 ..).trans ((x98_17 ..).trans ((x98_18 ..)))) rfl)))) rfl))))))) rfl))))
theorem s98_22 (d : Nat) (h : gd_H) (w0 : Value) (w1 : Value) (z0 : Int32) : go gd_P0 d 98 22 [w0, w1] [.int z0] h =
    some (.inl (some (.int z0)), h) :=
  (x98_22 ..)
theorem r98 (d : Nat) (h : gd_H) (v0 : Nat) (v1 : Int32) : run gd_P0 (d + 1) 98 [.ref v0, .int v1] h = go gd_P0 d 98 0 [.ref v0, .int v1] [] h := run_succ gd_P0 d 98 [.ref v0, .int v1] h (Nat.le_of_ble_eq_true rfl)
theorem x99_0 (d : Nat) (L st : List Value) (h : gd_H) : go gd_P0 d 99 0 L st h = gs gd_P0 d 99 0 L (i_ald 0 1 L st h) := go_eq gd_P0 d 99 0 L st h
theorem x99_1 (d : Nat) (L st : List Value) (h : gd_H) : go gd_P0 d 99 1 L st h = gs gd_P0 d 99 1 L (i_cV 97 0 10 4 L st h) := go_eq gd_P0 d 99 1 L st h
theorem x99_4 (d : Nat) (L st : List Value) (h : gd_H) : go gd_P0 d 99 4 L st h = gs gd_P0 d 99 4 L (i_msk [true] (i_pop 5) L st h) := go_eq gd_P0 d 99 4 L st h
theorem x99_5 (d : Nat) (L st : List Value) (h : gd_H) : go gd_P0 d 99 5 L st h = gs gd_P0 d 99 5 L (i_ald 0 6 L st h) := go_eq gd_P0 d 99 5 L st h
theorem x99_6 (d : Nat) (L st : List Value) (h : gd_H) : go gd_P0 d 99 6 L st h = gs gd_P0 d 99 6 L (i_getI 10 2 9 L st h) := go_eq gd_P0 d 99 6 L st h
theorem x99_9 (d : Nat) (L st : List Value) (h : gd_H) : go gd_P0 d 99 9 L st h = gs gd_P0 d 99 9 L (i_iret L st h) := go_eq gd_P0 d 99 9 L st h
theorem s99_0 (d : Nat) (h : gd_H) (v0 : Nat) : go gd_P0 d 99 0 [.ref v0] [] h =
    if gT h v0 = 10 then gc gd_P0 d 99 1 4 [.ref v0] [] (run gd_P0 d 97 [.ref v0] h) else none :=
  (x99_0 ..).trans ((x99_1 ..).trans ((gs_if ..).trans ((ia9 (by simp)).trans (ic9 rfl rfl))))
theorem s99_4 (d : Nat) (h : gd_H) (v0 : Nat) (z0 : Int32) : go gd_P0 d 99 4 [.ref v0] [.int z0] h =
    if gT h v0 = 10 then some (.inl (some (.int (gI h v0 2))), h) else none :=
  (x99_4 ..).trans ((x99_5 ..).trans ((x99_6 ..).trans ((gs_if ..).trans (ic9 ((x99_9 ..)) rfl))))
theorem r99 (d : Nat) (h : gd_H) (v0 : Nat) : run gd_P0 (d + 1) 99 [.ref v0] h = go gd_P0 d 99 0 [.ref v0] [] h := run_succ gd_P0 d 99 [.ref v0] h (Nat.le_of_ble_eq_true rfl)
theorem x100_0 (d : Nat) (L st : List Value) (h : gd_H) : go gd_P0 d 100 0 L st h = gs gd_P0 d 100 0 L (i_psh (.int 0) 1 L st h) := go_eq gd_P0 d 100 0 L st h
theorem x100_1 (d : Nat) (L st : List Value) (h : gd_H) : go gd_P0 d 100 1 L st h = gs gd_P0 d 100 1 L (i_ist 2 2 L st h) := go_eq gd_P0 d 100 1 L st h
theorem x100_2 (d : Nat) (L st : List Value) (h : gd_H) : go gd_P0 d 100 2 L st h = gs gd_P0 d 100 2 L (i_msk [true, true, true] (i_ild 2 3) L st h) := go_eq gd_P0 d 100 2 L st h
theorem x100_3 (d : Nat) (L st : List Value) (h : gd_H) : go gd_P0 d 100 3 L st h = gs gd_P0 d 100 3 L (i_ald 1 4 L st h) := go_eq gd_P0 d 100 3 L st h
theorem x100_4 (d : Nat) (L st : List Value) (h : gd_H) : go gd_P0 d 100 4 L st h = gs gd_P0 d 100 4 L (i_alen 38 5 L st h) := go_eq gd_P0 d 100 4 L st h
theorem x100_5 (d : Nat) (L st : List Value) (h : gd_H) : go gd_P0 d 100 5 L st h = gs gd_P0 d 100 5 L (i_icge 26 8 L st h) := go_eq gd_P0 d 100 5 L st h
theorem x100_8 (d : Nat) (L st : List Value) (h : gd_H) : go gd_P0 d 100 8 L st h = gs gd_P0 d 100 8 L (i_ald 0 9 L st h) := go_eq gd_P0 d 100 8 L st h
theorem x100_9 (d : Nat) (L st : List Value) (h : gd_H) : go gd_P0 d 100 9 L st h = gs gd_P0 d 100 9 L (i_ald 1 10 L st h) := go_eq gd_P0 d 100 9 L st h
theorem x100_10 (d : Nat) (L st : List Value) (h : gd_H) : go gd_P0 d 100 10 L st h = gs gd_P0 d 100 10 L (i_ild 2 11 L st h) := go_eq gd_P0 d 100 10 L st h
theorem x100_11 (d : Nat) (L st : List Value) (h : gd_H) : go gd_P0 d 100 11 L st h = gs gd_P0 d 100 11 L (i_aldR 38 12 L st h) := go_eq gd_P0 d 100 11 L st h
theorem x100_12 (d : Nat) (L st : List Value) (h : gd_H) : go gd_P0 d 100 12 L st h = gs gd_P0 d 100 12 L (i_cV 101 1 10 15 L st h) := go_eq gd_P0 d 100 12 L st h
theorem x100_15 (d : Nat) (L st : List Value) (h : gd_H) : go gd_P0 d 100 15 L st h = gs gd_P0 d 100 15 L (i_msk [true, true, true] (i_ifeq 20 18) L st h) := go_eq gd_P0 d 100 15 L st h
theorem x100_18 (d : Nat) (L st : List Value) (h : gd_H) : go gd_P0 d 100 18 L st h = gs gd_P0 d 100 18 L (i_ild 2 19 L st h) := go_eq gd_P0 d 100 18 L st h
theorem x100_19 (d : Nat) (L st : List Value) (h : gd_H) : go gd_P0 d 100 19 L st h = gs gd_P0 d 100 19 L (i_iret L st h) := go_eq gd_P0 d 100 19 L st h
theorem x100_20 (d : Nat) (L st : List Value) (h : gd_H) : go gd_P0 d 100 20 L st h = gs gd_P0 d 100 20 L (i_inc 2 1 23 L st h) := go_eq gd_P0 d 100 20 L st h
theorem x100_23 (d : Nat) (L st : List Value) (h : gd_H) : go gd_P0 d 100 23 L st h = gs gd_P0 d 100 23 L (i_goto 2 L st h) := go_eq gd_P0 d 100 23 L st h
theorem x100_26 (d : Nat) (L st : List Value) (h : gd_H) : go gd_P0 d 100 26 L st h = gs gd_P0 d 100 26 L (i_psh (.int (-1)) 27 L st h) := go_eq gd_P0 d 100 26 L st h
theorem x100_27 (d : Nat) (L st : List Value) (h : gd_H) : go gd_P0 d 100 27 L st h = gs gd_P0 d 100 27 L (i_iret L st h) := go_eq gd_P0 d 100 27 L st h
theorem s100_0 (d : Nat) (h : gd_H) (v0 : Nat) (v1 : Nat) : go gd_P0 d 100 0 [.ref v0, .ref v1, .null] [] h =
    go gd_P0 d 100 2 [.ref v0, .ref v1, .int 0] [] h :=
  (x100_0 ..).trans ((x100_1 ..))
theorem s100_2 (d : Nat) (h : gd_H) (v0 : Nat) (v1 : Nat) (v2 : Int32) : go gd_P0 d 100 2 [.ref v0, .ref v1, .int v2] [] h =
    if gT h v1 = 38 then if (Int32.ofNat (gL h v1)) ≤ v2 then some (.inl (some (.int (-1))), h) else if gT h v1 = 38 ∧ ¬ (v2 < 0 ∨ gL h v1 ≤ Int32.toNatClampNeg v2) then if gT h v0 = 10 then gc gd_P0 d 100 12 15 [.ref v0, .ref v1, .int v2] [] (run gd_P0 d 101 [.ref v0, .ref (gR h v1 (Int32.toNatClampNeg v2))] h) else none else none else none :=
  (x100_2 ..).trans ((x100_3 ..).trans ((x100_4 ..).trans ((gs_if ..).trans (ic9 ((x100_5 ..).trans ((gs_if ..).trans (ic9 ((x100_26 ..).trans ((x100_27 ..))) ((x100_8 ..).trans ((x100_9 ..).trans ((x100_10 ..).trans ((x100_11 ..).trans ((gs_if ..).trans (ic9 ((x100_12 ..).trans ((gs_if ..).trans ((ia9 (by simp)).trans (ic9 rfl rfl)))) rfl))))))))) rfl))))
theorem s100_15 (d : Nat) (h : gd_H) (v0 : Nat) (v1 : Nat) (v2 : Int32) (z0 : Int32) : go gd_P0 d 100 15 [.ref v0, .ref v1, .int v2] [.int z0] h =
    if z0 = 0 then go gd_P0 d 100 2 [.ref v0, .ref v1, .int (v2 + 1)] [] h else some (.inl (some (.int v2)), h) :=
  (x100_15 ..).trans ((gs_nif ..).trans (ic9 ((x100_20 ..).trans ((x100_23 ..))) ((x100_18 ..).trans ((x100_19 ..)))))
theorem r100 (d : Nat) (h : gd_H) (v0 : Nat) (v1 : Nat) : run gd_P0 (d + 1) 100 [.ref v0, .ref v1] h = go gd_P0 d 100 0 [.ref v0, .ref v1, .null] [] h := run_succ gd_P0 d 100 [.ref v0, .ref v1] h (Nat.le_of_ble_eq_true rfl)
theorem x101_0 (d : Nat) (L st : List Value) (h : gd_H) : go gd_P0 d 101 0 L st h = gs gd_P0 d 101 0 L (i_ald 0 1 L st h) := go_eq gd_P0 d 101 0 L st h
theorem x101_1 (d : Nat) (L st : List Value) (h : gd_H) : go gd_P0 d 101 1 L st h = gs gd_P0 d 101 1 L (i_cV 99 0 10 4 L st h) := go_eq gd_P0 d 101 1 L st h
theorem x101_4 (d : Nat) (L st : List Value) (h : gd_H) : go gd_P0 d 101 4 L st h = gs gd_P0 d 101 4 L (i_msk [true, true, false, false, false] (i_ist 2 5) L st h) := go_eq gd_P0 d 101 4 L st h
theorem x101_5 (d : Nat) (L st : List Value) (h : gd_H) : go gd_P0 d 101 5 L st h = gs gd_P0 d 101 5 L (i_psh (.int 0) 6 L st h) := go_eq gd_P0 d 101 5 L st h
theorem x101_6 (d : Nat) (L st : List Value) (h : gd_H) : go gd_P0 d 101 6 L st h = gs gd_P0 d 101 6 L (i_ist 3 7 L st h) := go_eq gd_P0 d 101 6 L st h
theorem x101_7 (d : Nat) (L st : List Value) (h : gd_H) : go gd_P0 d 101 7 L st h = gs gd_P0 d 101 7 L (i_msk [true, true, true, true, false] (i_ald 0 8) L st h) := go_eq gd_P0 d 101 7 L st h
theorem x101_8 (d : Nat) (L st : List Value) (h : gd_H) : go gd_P0 d 101 8 L st h = gs gd_P0 d 101 8 L (i_ild 2 9 L st h) := go_eq gd_P0 d 101 8 L st h
theorem x101_9 (d : Nat) (L st : List Value) (h : gd_H) : go gd_P0 d 101 9 L st h = gs gd_P0 d 101 9 L (i_ild 3 10 L st h) := go_eq gd_P0 d 101 9 L st h
theorem x101_10 (d : Nat) (L st : List Value) (h : gd_H) : go gd_P0 d 101 10 L st h = gs gd_P0 d 101 10 L (i_iadd 11 L st h) := go_eq gd_P0 d 101 10 L st h
theorem x101_11 (d : Nat) (L st : List Value) (h : gd_H) : go gd_P0 d 101 11 L st h = gs gd_P0 d 101 11 L (i_cV 98 1 10 14 L st h) := go_eq gd_P0 d 101 11 L st h
theorem x101_14 (d : Nat) (L st : List Value) (h : gd_H) : go gd_P0 d 101 14 L st h = gs gd_P0 d 101 14 L (i_msk [true, true, true, true, false] (i_cS 102 1 17) L st h) := go_eq gd_P0 d 101 14 L st h
theorem x101_17 (d : Nat) (L st : List Value) (h : gd_H) : go gd_P0 d 101 17 L st h = gs gd_P0 d 101 17 L (i_msk [true, true, true, true, false] (i_ifeq 26 20) L st h) := go_eq gd_P0 d 101 17 L st h
theorem x101_20 (d : Nat) (L st : List Value) (h : gd_H) : go gd_P0 d 101 20 L st h = gs gd_P0 d 101 20 L (i_inc 3 1 23 L st h) := go_eq gd_P0 d 101 20 L st h
theorem x101_23 (d : Nat) (L st : List Value) (h : gd_H) : go gd_P0 d 101 23 L st h = gs gd_P0 d 101 23 L (i_goto 7 L st h) := go_eq gd_P0 d 101 23 L st h
theorem x101_26 (d : Nat) (L st : List Value) (h : gd_H) : go gd_P0 d 101 26 L st h = gs gd_P0 d 101 26 L (i_ild 3 27 L st h) := go_eq gd_P0 d 101 26 L st h
theorem x101_27 (d : Nat) (L st : List Value) (h : gd_H) : go gd_P0 d 101 27 L st h = gs gd_P0 d 101 27 L (i_ald 1 28 L st h) := go_eq gd_P0 d 101 27 L st h
theorem x101_28 (d : Nat) (L st : List Value) (h : gd_H) : go gd_P0 d 101 28 L st h = gs gd_P0 d 101 28 L (i_cVs 5 0 31 L st h) := go_eq gd_P0 d 101 28 L st h
theorem x101_31 (d : Nat) (L st : List Value) (h : gd_H) : go gd_P0 d 101 31 L st h = gs gd_P0 d 101 31 L (i_msk [true, true, true, true, false] (i_iceq 36 34) L st h) := go_eq gd_P0 d 101 31 L st h
theorem x101_34 (d : Nat) (L st : List Value) (h : gd_H) : go gd_P0 d 101 34 L st h = gs gd_P0 d 101 34 L (i_psh (.int 0) 35 L st h) := go_eq gd_P0 d 101 34 L st h
theorem x101_35 (d : Nat) (L st : List Value) (h : gd_H) : go gd_P0 d 101 35 L st h = gs gd_P0 d 101 35 L (i_zret L st h) := go_eq gd_P0 d 101 35 L st h
theorem x101_36 (d : Nat) (L st : List Value) (h : gd_H) : go gd_P0 d 101 36 L st h = gs gd_P0 d 101 36 L (i_psh (.int 0) 37 L st h) := go_eq gd_P0 d 101 36 L st h
theorem x101_37 (d : Nat) (L st : List Value) (h : gd_H) : go gd_P0 d 101 37 L st h = gs gd_P0 d 101 37 L (i_ist 4 39 L st h) := go_eq gd_P0 d 101 37 L st h
theorem x101_39 (d : Nat) (L st : List Value) (h : gd_H) : go gd_P0 d 101 39 L st h = gs gd_P0 d 101 39 L (i_msk [true, true, true, true, true] (i_ild 4 41) L st h) := go_eq gd_P0 d 101 39 L st h
theorem x101_41 (d : Nat) (L st : List Value) (h : gd_H) : go gd_P0 d 101 41 L st h = gs gd_P0 d 101 41 L (i_ild 3 42 L st h) := go_eq gd_P0 d 101 41 L st h
theorem x101_42 (d : Nat) (L st : List Value) (h : gd_H) : go gd_P0 d 101 42 L st h = gs gd_P0 d 101 42 L (i_icge 70 45 L st h) := go_eq gd_P0 d 101 42 L st h
theorem x101_45 (d : Nat) (L st : List Value) (h : gd_H) : go gd_P0 d 101 45 L st h = gs gd_P0 d 101 45 L (i_ald 0 46 L st h) := go_eq gd_P0 d 101 45 L st h
theorem x101_46 (d : Nat) (L st : List Value) (h : gd_H) : go gd_P0 d 101 46 L st h = gs gd_P0 d 101 46 L (i_ild 2 47 L st h) := go_eq gd_P0 d 101 46 L st h
theorem x101_47 (d : Nat) (L st : List Value) (h : gd_H) : go gd_P0 d 101 47 L st h = gs gd_P0 d 101 47 L (i_ild 4 49 L st h) := go_eq gd_P0 d 101 47 L st h
theorem x101_49 (d : Nat) (L st : List Value) (h : gd_H) : go gd_P0 d 101 49 L st h = gs gd_P0 d 101 49 L (i_iadd 50 L st h) := go_eq gd_P0 d 101 49 L st h
theorem x101_50 (d : Nat) (L st : List Value) (h : gd_H) : go gd_P0 d 101 50 L st h = gs gd_P0 d 101 50 L (i_cV 98 1 10 53 L st h) := go_eq gd_P0 d 101 50 L st h
theorem x101_53 (d : Nat) (L st : List Value) (h : gd_H) : go gd_P0 d 101 53 L st h = gs gd_P0 d 101 53 L (i_msk [true, true, true, true, true] (i_ald 1 54) L st h) := go_eq gd_P0 d 101 53 L st h
theorem x101_54 (d : Nat) (L st : List Value) (h : gd_H) : go gd_P0 d 101 54 L st h = gs gd_P0 d 101 54 L (i_ild 4 56 L st h) := go_eq gd_P0 d 101 54 L st h
theorem x101_56 (d : Nat) (L st : List Value) (h : gd_H) : go gd_P0 d 101 56 L st h = gs gd_P0 d 101 56 L (i_cVs 7 1 59 L st h) := go_eq gd_P0 d 101 56 L st h
theorem x101_59 (d : Nat) (L st : List Value) (h : gd_H) : go gd_P0 d 101 59 L st h = gs gd_P0 d 101 59 L (i_msk [true, true, true, true, true] (i_iceq 64 62) L st h) := go_eq gd_P0 d 101 59 L st h
theorem x101_62 (d : Nat) (L st : List Value) (h : gd_H) : go gd_P0 d 101 62 L st h = gs gd_P0 d 101 62 L (i_psh (.int 0) 63 L st h) := go_eq gd_P0 d 101 62 L st h
theorem x101_63 (d : Nat) (L st : List Value) (h : gd_H) : go gd_P0 d 101 63 L st h = gs gd_P0 d 101 63 L (i_zret L st h) := go_eq gd_P0 d 101 63 L st h
theorem x101_64 (d : Nat) (L st : List Value) (h : gd_H) : go gd_P0 d 101 64 L st h = gs gd_P0 d 101 64 L (i_inc 4 1 67 L st h) := go_eq gd_P0 d 101 64 L st h
theorem x101_67 (d : Nat) (L st : List Value) (h : gd_H) : go gd_P0 d 101 67 L st h = gs gd_P0 d 101 67 L (i_goto 39 L st h) := go_eq gd_P0 d 101 67 L st h
theorem x101_70 (d : Nat) (L st : List Value) (h : gd_H) : go gd_P0 d 101 70 L st h = gs gd_P0 d 101 70 L (i_psh (.int 1) 71 L st h) := go_eq gd_P0 d 101 70 L st h
theorem x101_71 (d : Nat) (L st : List Value) (h : gd_H) : go gd_P0 d 101 71 L st h = gs gd_P0 d 101 71 L (i_zret L st h) := go_eq gd_P0 d 101 71 L st h
theorem s101_0 (d : Nat) (h : gd_H) (v0 : Nat) (v1 : Nat) : go gd_P0 d 101 0 [.ref v0, .ref v1, .null, .null, .null] [] h =
    if gT h v0 = 10 then gc gd_P0 d 101 1 4 [.ref v0, .ref v1, .null, .null, .null] [] (run gd_P0 d 99 [.ref v0] h) else none :=
  (x101_0 ..).trans ((x101_1 ..).trans ((gs_if ..).trans ((ia9 (by simp)).trans (ic9 rfl rfl))))
theorem s101_4 (d : Nat) (h : gd_H) (v0 : Nat) (v1 : Nat) (w2 : Value) (w3 : Value) (w4 : Value) (z0 : Int32) : go gd_P0 d 101 4 [.ref v0, .ref v1, w2, w3, w4] [.int z0] h =
    go gd_P0 d 101 7 [.ref v0, .ref v1, .int z0, .int 0, .null] [] h :=
  (x101_4 ..).trans ((x101_5 ..).trans ((x101_6 ..)))
theorem s101_7 (d : Nat) (h : gd_H) (v0 : Nat) (v1 : Nat) (v2 : Int32) (v3 : Int32) (w4 : Value) : go gd_P0 d 101 7 [.ref v0, .ref v1, .int v2, .int v3, w4] [] h =
    if gT h v0 = 10 then gc gd_P0 d 101 11 14 [.ref v0, .ref v1, .int v2, .int v3, .null] [] (run gd_P0 d 98 [.ref v0, .int (v2 + v3)] h) else none :=
  (x101_7 ..).trans ((x101_8 ..).trans ((x101_9 ..).trans ((x101_10 ..).trans ((x101_11 ..).trans ((gs_if ..).trans ((ia9 (by simp)).trans (ic9 rfl rfl)))))))
theorem s101_14 (d : Nat) (h : gd_H) (v0 : Nat) (v1 : Nat) (v2 : Int32) (v3 : Int32) (w4 : Value) (z0 : Int32) : go gd_P0 d 101 14 [.ref v0, .ref v1, .int v2, .int v3, w4] [.int z0] h =
    gc gd_P0 d 101 14 17 [.ref v0, .ref v1, .int v2, .int v3, .null] [] (run gd_P0 d 102 [.int z0] h) :=
  (x101_14 ..)
theorem s101_17 (d : Nat) (h : gd_H) (v0 : Nat) (v1 : Nat) (v2 : Int32) (v3 : Int32) (w4 : Value) (z0 : Int32) : go gd_P0 d 101 17 [.ref v0, .ref v1, .int v2, .int v3, w4] [.int z0] h =
    if z0 = 0 then if gT h v1 = 23 ∧ v1 < 96 then gc gd_P0 d 101 28 31 [.ref v0, .ref v1, .int v2, .int v3, .null] [.int v3] (run gd_P0 d 5 [.ref v1] h) else none else go gd_P0 d 101 7 [.ref v0, .ref v1, .int v2, .int (v3 + 1), .null] [] h :=
  (x101_17 ..).trans ((gs_nif ..).trans (ic9 ((x101_26 ..).trans ((x101_27 ..).trans ((x101_28 ..).trans ((gs_if ..).trans ((ia9 (by simp)).trans (ic9 rfl rfl)))))) ((x101_20 ..).trans ((x101_23 ..)))))
theorem s101_31 (d : Nat) (h : gd_H) (v0 : Nat) (v1 : Nat) (v2 : Int32) (v3 : Int32) (w4 : Value) (z0 : Int32) (z1 : Int32) : go gd_P0 d 101 31 [.ref v0, .ref v1, .int v2, .int v3, w4] [.int z0, .int z1] h =
    if z1 = z0 then go gd_P0 d 101 39 [.ref v0, .ref v1, .int v2, .int v3, .int 0] [] h else some (.inl (some (.int 0)), h) :=
  (x101_31 ..).trans ((gs_nif ..).trans (ic9 ((x101_36 ..).trans ((x101_37 ..))) ((x101_34 ..).trans ((x101_35 ..)))))
theorem s101_39 (d : Nat) (h : gd_H) (v0 : Nat) (v1 : Nat) (v2 : Int32) (v3 : Int32) (v4 : Int32) : go gd_P0 d 101 39 [.ref v0, .ref v1, .int v2, .int v3, .int v4] [] h =
    if v3 ≤ v4 then some (.inl (some (.int 1)), h) else if gT h v0 = 10 then gc gd_P0 d 101 50 53 [.ref v0, .ref v1, .int v2, .int v3, .int v4] [] (run gd_P0 d 98 [.ref v0, .int (v2 + v4)] h) else none :=
  (x101_39 ..).trans ((x101_41 ..).trans ((x101_42 ..).trans ((gs_if ..).trans (ic9 ((x101_70 ..).trans ((x101_71 ..))) ((x101_45 ..).trans ((x101_46 ..).trans ((x101_47 ..).trans ((x101_49 ..).trans ((x101_50 ..).trans ((gs_if ..).trans ((ia9 (by simp)).trans (ic9 rfl rfl))))))))))))
theorem s101_53 (d : Nat) (h : gd_H) (v0 : Nat) (v1 : Nat) (v2 : Int32) (v3 : Int32) (v4 : Int32) (z0 : Int32) : go gd_P0 d 101 53 [.ref v0, .ref v1, .int v2, .int v3, .int v4] [.int z0] h =
    if gT h v1 = 23 ∧ v1 < 96 then gc gd_P0 d 101 56 59 [.ref v0, .ref v1, .int v2, .int v3, .int v4] [.int z0] (run gd_P0 d 7 [.ref v1, .int v4] h) else none :=
  (x101_53 ..).trans ((x101_54 ..).trans ((x101_56 ..).trans ((gs_if ..).trans ((ia9 (by simp)).trans (ic9 rfl rfl)))))
theorem s101_59 (d : Nat) (h : gd_H) (v0 : Nat) (v1 : Nat) (v2 : Int32) (v3 : Int32) (v4 : Int32) (z0 : Int32) (z1 : Int32) : go gd_P0 d 101 59 [.ref v0, .ref v1, .int v2, .int v3, .int v4] [.int z0, .int z1] h =
    if z1 = z0 then go gd_P0 d 101 39 [.ref v0, .ref v1, .int v2, .int v3, .int (v4 + 1)] [] h else some (.inl (some (.int 0)), h) :=
  (x101_59 ..).trans ((gs_nif ..).trans (ic9 ((x101_64 ..).trans ((x101_67 ..))) ((x101_62 ..).trans ((x101_63 ..)))))
theorem r101 (d : Nat) (h : gd_H) (v0 : Nat) (v1 : Nat) : run gd_P0 (d + 1) 101 [.ref v0, .ref v1] h = go gd_P0 d 101 0 [.ref v0, .ref v1, .null, .null, .null] [] h := run_succ gd_P0 d 101 [.ref v0, .ref v1] h (Nat.le_of_ble_eq_true rfl)
theorem x102_0 (d : Nat) (L st : List Value) (h : gd_H) : go gd_P0 d 102 0 L st h = gs gd_P0 d 102 0 L (i_ild 0 1 L st h) := go_eq gd_P0 d 102 0 L st h
theorem x102_1 (d : Nat) (L st : List Value) (h : gd_H) : go gd_P0 d 102 1 L st h = gs gd_P0 d 102 1 L (i_psh (.int 97) 3 L st h) := go_eq gd_P0 d 102 1 L st h
theorem x102_3 (d : Nat) (L st : List Value) (h : gd_H) : go gd_P0 d 102 3 L st h = gs gd_P0 d 102 3 L (i_iclt 16 6 L st h) := go_eq gd_P0 d 102 3 L st h
theorem x102_6 (d : Nat) (L st : List Value) (h : gd_H) : go gd_P0 d 102 6 L st h = gs gd_P0 d 102 6 L (i_ild 0 7 L st h) := go_eq gd_P0 d 102 6 L st h
theorem x102_7 (d : Nat) (L st : List Value) (h : gd_H) : go gd_P0 d 102 7 L st h = gs gd_P0 d 102 7 L (i_psh (.int 122) 9 L st h) := go_eq gd_P0 d 102 7 L st h
theorem x102_9 (d : Nat) (L st : List Value) (h : gd_H) : go gd_P0 d 102 9 L st h = gs gd_P0 d 102 9 L (i_icgt 16 12 L st h) := go_eq gd_P0 d 102 9 L st h
theorem x102_12 (d : Nat) (L st : List Value) (h : gd_H) : go gd_P0 d 102 12 L st h = gs gd_P0 d 102 12 L (i_psh (.int 1) 13 L st h) := go_eq gd_P0 d 102 12 L st h
theorem x102_13 (d : Nat) (L st : List Value) (h : gd_H) : go gd_P0 d 102 13 L st h = gs gd_P0 d 102 13 L (i_goto 17 L st h) := go_eq gd_P0 d 102 13 L st h
theorem x102_16 (d : Nat) (L st : List Value) (h : gd_H) : go gd_P0 d 102 16 L st h = gs gd_P0 d 102 16 L (i_msk [false] (i_psh (.int 0) 17) L st h) := go_eq gd_P0 d 102 16 L st h
theorem x102_17 (d : Nat) (L st : List Value) (h : gd_H) : go gd_P0 d 102 17 L st h = gs gd_P0 d 102 17 L (i_msk [false] (i_zret) L st h) := go_eq gd_P0 d 102 17 L st h
theorem s102_0 (d : Nat) (h : gd_H) (v0 : Int32) : go gd_P0 d 102 0 [.int v0] [] h =
    if v0 < 97 then go gd_P0 d 102 16 [.int v0] [] h else if 122 < v0 then go gd_P0 d 102 16 [.int v0] [] h else go gd_P0 d 102 17 [.int v0] [.int 1] h :=
  (x102_0 ..).trans ((x102_1 ..).trans ((x102_3 ..).trans ((gs_if ..).trans (ic9 (rfl) ((x102_6 ..).trans ((x102_7 ..).trans ((x102_9 ..).trans ((gs_if ..).trans (ic9 (rfl) ((x102_12 ..).trans ((x102_13 ..))))))))))))
theorem s102_16 (d : Nat) (h : gd_H) (w0 : Value) : go gd_P0 d 102 16 [w0] [] h =
    go gd_P0 d 102 17 [.null] [.int 0] h :=
  (x102_16 ..)
theorem s102_17 (d : Nat) (h : gd_H) (w0 : Value) (z0 : Int32) : go gd_P0 d 102 17 [w0] [.int z0] h =
    if z0 = 0 ∨ z0 = 1 then some (.inl (some (.int z0)), h) else none :=
  (x102_17 ..).trans ((gs_nif ..).trans (ic9 rfl rfl))
theorem r102 (d : Nat) (h : gd_H) (v0 : Int32) : run gd_P0 (d + 1) 102 [.int v0] h = go gd_P0 d 102 0 [.int v0] [] h := run_succ gd_P0 d 102 [.int v0] h (Nat.le_of_ble_eq_true rfl)
theorem x103_0 (d : Nat) (L st : List Value) (h : gd_H) : go gd_P0 d 103 0 L st h = gs gd_P0 d 103 0 L (i_msk [true] (i_ald 0 1) L st h) := go_eq gd_P0 d 103 0 L st h
theorem x103_1 (d : Nat) (L st : List Value) (h : gd_H) : go gd_P0 d 103 1 L st h = gs gd_P0 d 103 1 L (i_ald 0 2 L st h) := go_eq gd_P0 d 103 1 L st h
theorem x103_2 (d : Nat) (L st : List Value) (h : gd_H) : go gd_P0 d 103 2 L st h = gs gd_P0 d 103 2 L (i_getI 10 2 5 L st h) := go_eq gd_P0 d 103 2 L st h
theorem x103_5 (d : Nat) (L st : List Value) (h : gd_H) : go gd_P0 d 103 5 L st h = gs gd_P0 d 103 5 L (i_cV 98 1 10 8 L st h) := go_eq gd_P0 d 103 5 L st h
theorem x103_8 (d : Nat) (L st : List Value) (h : gd_H) : go gd_P0 d 103 8 L st h = gs gd_P0 d 103 8 L (i_msk [true] (i_cS 102 1 11) L st h) := go_eq gd_P0 d 103 8 L st h
theorem x103_11 (d : Nat) (L st : List Value) (h : gd_H) : go gd_P0 d 103 11 L st h = gs gd_P0 d 103 11 L (i_msk [true] (i_ifeq 27 14) L st h) := go_eq gd_P0 d 103 11 L st h
theorem x103_14 (d : Nat) (L st : List Value) (h : gd_H) : go gd_P0 d 103 14 L st h = gs gd_P0 d 103 14 L (i_ald 0 15 L st h) := go_eq gd_P0 d 103 14 L st h
theorem x103_15 (d : Nat) (L st : List Value) (h : gd_H) : go gd_P0 d 103 15 L st h = gs gd_P0 d 103 15 L (i_dup 16 L st h) := go_eq gd_P0 d 103 15 L st h
theorem x103_16 (d : Nat) (L st : List Value) (h : gd_H) : go gd_P0 d 103 16 L st h = gs gd_P0 d 103 16 L (i_getI 10 2 19 L st h) := go_eq gd_P0 d 103 16 L st h
theorem x103_19 (d : Nat) (L st : List Value) (h : gd_H) : go gd_P0 d 103 19 L st h = gs gd_P0 d 103 19 L (i_psh (.int 1) 20 L st h) := go_eq gd_P0 d 103 19 L st h
theorem x103_20 (d : Nat) (L st : List Value) (h : gd_H) : go gd_P0 d 103 20 L st h = gs gd_P0 d 103 20 L (i_iadd 21 L st h) := go_eq gd_P0 d 103 20 L st h
theorem x103_21 (d : Nat) (L st : List Value) (h : gd_H) : go gd_P0 d 103 21 L st h = gs gd_P0 d 103 21 L (i_putI 10 2 24 L st h) := go_eq gd_P0 d 103 21 L st h
theorem x103_24 (d : Nat) (L st : List Value) (h : gd_H) : go gd_P0 d 103 24 L st h = gs gd_P0 d 103 24 L (i_goto 0 L st h) := go_eq gd_P0 d 103 24 L st h
theorem x103_27 (d : Nat) (L st : List Value) (h : gd_H) : go gd_P0 d 103 27 L st h = gs gd_P0 d 103 27 L (i_ret L st h) := go_eq gd_P0 d 103 27 L st h
theorem s103_0 (d : Nat) (h : gd_H) (v0 : Nat) : go gd_P0 d 103 0 [.ref v0] [] h =
    if gT h v0 = 10 then if gT h v0 = 10 then gc gd_P0 d 103 5 8 [.ref v0] [] (run gd_P0 d 98 [.ref v0, .int (gI h v0 2)] h) else none else none :=
  (x103_0 ..).trans ((x103_1 ..).trans ((x103_2 ..).trans ((gs_if ..).trans (ic9 ((x103_5 ..).trans ((gs_if ..).trans ((ia9 (by simp)).trans (ic9 rfl rfl)))) rfl))))
theorem s103_8 (d : Nat) (h : gd_H) (v0 : Nat) (z0 : Int32) : go gd_P0 d 103 8 [.ref v0] [.int z0] h =
    gc gd_P0 d 103 8 11 [.ref v0] [] (run gd_P0 d 102 [.int z0] h) :=
  (x103_8 ..)
theorem s103_11 (d : Nat) (h : gd_H) (v0 : Nat) (z0 : Int32) : go gd_P0 d 103 11 [.ref v0] [.int z0] h =
    if z0 = 0 then some (.inl none, h) else if gT h v0 = 10 then if gT h v0 = 10 then go gd_P0 d 103 0 [.ref v0] [] (wI h (up1 (gI h) v0 2 ((gI h v0 2) + 1))) else none else none :=
  (x103_11 ..).trans ((gs_nif ..).trans (ic9 ((x103_27 ..)) ((x103_14 ..).trans ((x103_15 ..).trans ((x103_16 ..).trans ((gs_if ..).trans (ic9 ((x103_19 ..).trans ((x103_20 ..).trans ((x103_21 ..).trans ((gs_if ..).trans (ic9 ((x103_24 ..)) rfl))))) rfl)))))))
theorem r103 (d : Nat) (h : gd_H) (v0 : Nat) : run gd_P0 (d + 1) 103 [.ref v0] h = go gd_P0 d 103 0 [.ref v0] [] h := run_succ gd_P0 d 103 [.ref v0] h (Nat.le_of_ble_eq_true rfl)
theorem x104_0 (d : Nat) (L st : List Value) (h : gd_H) : go gd_P0 d 104 0 L st h = gs gd_P0 d 104 0 L (i_ald 0 1 L st h) := go_eq gd_P0 d 104 0 L st h
theorem x104_1 (d : Nat) (L st : List Value) (h : gd_H) : go gd_P0 d 104 1 L st h = gs gd_P0 d 104 1 L (i_cV 99 0 10 4 L st h) := go_eq gd_P0 d 104 1 L st h
theorem x104_4 (d : Nat) (L st : List Value) (h : gd_H) : go gd_P0 d 104 4 L st h = gs gd_P0 d 104 4 L (i_msk [true, true, true, false, false] (i_ist 3 5) L st h) := go_eq gd_P0 d 104 4 L st h
theorem x104_5 (d : Nat) (L st : List Value) (h : gd_H) : go gd_P0 d 104 5 L st h = gs gd_P0 d 104 5 L (i_psh (.int 0) 6 L st h) := go_eq gd_P0 d 104 5 L st h
theorem x104_6 (d : Nat) (L st : List Value) (h : gd_H) : go gd_P0 d 104 6 L st h = gs gd_P0 d 104 6 L (i_ist 4 8 L st h) := go_eq gd_P0 d 104 6 L st h
theorem x104_8 (d : Nat) (L st : List Value) (h : gd_H) : go gd_P0 d 104 8 L st h = gs gd_P0 d 104 8 L (i_ald 0 9 L st h) := go_eq gd_P0 d 104 8 L st h
theorem x104_9 (d : Nat) (L st : List Value) (h : gd_H) : go gd_P0 d 104 9 L st h = gs gd_P0 d 104 9 L (i_ald 0 10 L st h) := go_eq gd_P0 d 104 9 L st h
theorem x104_10 (d : Nat) (L st : List Value) (h : gd_H) : go gd_P0 d 104 10 L st h = gs gd_P0 d 104 10 L (i_getI 10 2 13 L st h) := go_eq gd_P0 d 104 10 L st h
theorem x104_13 (d : Nat) (L st : List Value) (h : gd_H) : go gd_P0 d 104 13 L st h = gs gd_P0 d 104 13 L (i_cV 98 1 10 16 L st h) := go_eq gd_P0 d 104 13 L st h
theorem x104_16 (d : Nat) (L st : List Value) (h : gd_H) : go gd_P0 d 104 16 L st h = gs gd_P0 d 104 16 L (i_msk [true, true, true, true, true] (i_cS 105 1 19) L st h) := go_eq gd_P0 d 104 16 L st h
theorem x104_19 (d : Nat) (L st : List Value) (h : gd_H) : go gd_P0 d 104 19 L st h = gs gd_P0 d 104 19 L (i_msk [true, true, true, true, true] (i_ifne 35 22) L st h) := go_eq gd_P0 d 104 19 L st h
theorem x104_22 (d : Nat) (L st : List Value) (h : gd_H) : go gd_P0 d 104 22 L st h = gs gd_P0 d 104 22 L (i_new 11 8 25 L st h) := go_eq gd_P0 d 104 22 L st h
theorem x104_25 (d : Nat) (L st : List Value) (h : gd_H) : go gd_P0 d 104 25 L st h = gs gd_P0 d 104 25 L (i_dup 26 L st h) := go_eq gd_P0 d 104 25 L st h
theorem x104_26 (d : Nat) (L st : List Value) (h : gd_H) : go gd_P0 d 104 26 L st h = gs gd_P0 d 104 26 L (i_psh (.int 1) 27 L st h) := go_eq gd_P0 d 104 26 L st h
theorem x104_27 (d : Nat) (L st : List Value) (h : gd_H) : go gd_P0 d 104 27 L st h = gs gd_P0 d 104 27 L (i_ald 0 28 L st h) := go_eq gd_P0 d 104 27 L st h
theorem x104_28 (d : Nat) (L st : List Value) (h : gd_H) : go gd_P0 d 104 28 L st h = gs gd_P0 d 104 28 L (i_getI 10 2 31 L st h) := go_eq gd_P0 d 104 28 L st h
theorem x104_31 (d : Nat) (L st : List Value) (h : gd_H) : go gd_P0 d 104 31 L st h = gs gd_P0 d 104 31 L (i_cV 111 2 11 34 L st h) := go_eq gd_P0 d 104 31 L st h
theorem x104_34 (d : Nat) (L st : List Value) (h : gd_H) : go gd_P0 d 104 34 L st h = gs gd_P0 d 104 34 L (i_thr L st h) := go_eq gd_P0 d 104 34 L st h
theorem x104_35 (d : Nat) (L st : List Value) (h : gd_H) : go gd_P0 d 104 35 L st h = gs gd_P0 d 104 35 L (i_msk [true, true, true, true, true] (i_ald 0 36) L st h) := go_eq gd_P0 d 104 35 L st h
theorem x104_36 (d : Nat) (L st : List Value) (h : gd_H) : go gd_P0 d 104 36 L st h = gs gd_P0 d 104 36 L (i_ald 0 37 L st h) := go_eq gd_P0 d 104 36 L st h
theorem x104_37 (d : Nat) (L st : List Value) (h : gd_H) : go gd_P0 d 104 37 L st h = gs gd_P0 d 104 37 L (i_getI 10 2 40 L st h) := go_eq gd_P0 d 104 37 L st h
theorem x104_40 (d : Nat) (L st : List Value) (h : gd_H) : go gd_P0 d 104 40 L st h = gs gd_P0 d 104 40 L (i_cV 98 1 10 43 L st h) := go_eq gd_P0 d 104 40 L st h
theorem x104_43 (d : Nat) (L st : List Value) (h : gd_H) : go gd_P0 d 104 43 L st h = gs gd_P0 d 104 43 L (i_msk [true, true, true, true, true] (i_cS 105 1 46) L st h) := go_eq gd_P0 d 104 43 L st h
theorem x104_46 (d : Nat) (L st : List Value) (h : gd_H) : go gd_P0 d 104 46 L st h = gs gd_P0 d 104 46 L (i_msk [true, true, true, true, true] (i_ifeq 86 49) L st h) := go_eq gd_P0 d 104 46 L st h
theorem x104_49 (d : Nat) (L st : List Value) (h : gd_H) : go gd_P0 d 104 49 L st h = gs gd_P0 d 104 49 L (i_psh (.int 10) 51 L st h) := go_eq gd_P0 d 104 49 L st h
theorem x104_51 (d : Nat) (L st : List Value) (h : gd_H) : go gd_P0 d 104 51 L st h = gs gd_P0 d 104 51 L (i_ild 4 53 L st h) := go_eq gd_P0 d 104 51 L st h
theorem x104_53 (d : Nat) (L st : List Value) (h : gd_H) : go gd_P0 d 104 53 L st h = gs gd_P0 d 104 53 L (i_imul 54 L st h) := go_eq gd_P0 d 104 53 L st h
theorem x104_54 (d : Nat) (L st : List Value) (h : gd_H) : go gd_P0 d 104 54 L st h = gs gd_P0 d 104 54 L (i_ald 0 55 L st h) := go_eq gd_P0 d 104 54 L st h
theorem x104_55 (d : Nat) (L st : List Value) (h : gd_H) : go gd_P0 d 104 55 L st h = gs gd_P0 d 104 55 L (i_ald 0 56 L st h) := go_eq gd_P0 d 104 55 L st h
theorem x104_56 (d : Nat) (L st : List Value) (h : gd_H) : go gd_P0 d 104 56 L st h = gs gd_P0 d 104 56 L (i_getI 10 2 59 L st h) := go_eq gd_P0 d 104 56 L st h
theorem x104_59 (d : Nat) (L st : List Value) (h : gd_H) : go gd_P0 d 104 59 L st h = gs gd_P0 d 104 59 L (i_cV 98 1 10 62 L st h) := go_eq gd_P0 d 104 59 L st h
theorem x104_62 (d : Nat) (L st : List Value) (h : gd_H) : go gd_P0 d 104 62 L st h = gs gd_P0 d 104 62 L (i_msk [true, true, true, true, false] (i_iadd 63) L st h) := go_eq gd_P0 d 104 62 L st h
theorem x104_63 (d : Nat) (L st : List Value) (h : gd_H) : go gd_P0 d 104 63 L st h = gs gd_P0 d 104 63 L (i_psh (.int 48) 65 L st h) := go_eq gd_P0 d 104 63 L st h
theorem x104_65 (d : Nat) (L st : List Value) (h : gd_H) : go gd_P0 d 104 65 L st h = gs gd_P0 d 104 65 L (i_isub 66 L st h) := go_eq gd_P0 d 104 65 L st h
theorem x104_66 (d : Nat) (L st : List Value) (h : gd_H) : go gd_P0 d 104 66 L st h = gs gd_P0 d 104 66 L (i_psh (.int 1000000) 68 L st h) := go_eq gd_P0 d 104 66 L st h
theorem x104_68 (d : Nat) (L st : List Value) (h : gd_H) : go gd_P0 d 104 68 L st h = gs gd_P0 d 104 68 L (i_mmin 71 L st h) := go_eq gd_P0 d 104 68 L st h
theorem x104_71 (d : Nat) (L st : List Value) (h : gd_H) : go gd_P0 d 104 71 L st h = gs gd_P0 d 104 71 L (i_msk [true, true, true, true, false] (i_ist 4 73) L st h) := go_eq gd_P0 d 104 71 L st h
theorem x104_73 (d : Nat) (L st : List Value) (h : gd_H) : go gd_P0 d 104 73 L st h = gs gd_P0 d 104 73 L (i_ald 0 74 L st h) := go_eq gd_P0 d 104 73 L st h
theorem x104_74 (d : Nat) (L st : List Value) (h : gd_H) : go gd_P0 d 104 74 L st h = gs gd_P0 d 104 74 L (i_dup 75 L st h) := go_eq gd_P0 d 104 74 L st h
theorem x104_75 (d : Nat) (L st : List Value) (h : gd_H) : go gd_P0 d 104 75 L st h = gs gd_P0 d 104 75 L (i_getI 10 2 78 L st h) := go_eq gd_P0 d 104 75 L st h
theorem x104_78 (d : Nat) (L st : List Value) (h : gd_H) : go gd_P0 d 104 78 L st h = gs gd_P0 d 104 78 L (i_psh (.int 1) 79 L st h) := go_eq gd_P0 d 104 78 L st h
theorem x104_79 (d : Nat) (L st : List Value) (h : gd_H) : go gd_P0 d 104 79 L st h = gs gd_P0 d 104 79 L (i_iadd 80 L st h) := go_eq gd_P0 d 104 79 L st h
theorem x104_80 (d : Nat) (L st : List Value) (h : gd_H) : go gd_P0 d 104 80 L st h = gs gd_P0 d 104 80 L (i_putI 10 2 83 L st h) := go_eq gd_P0 d 104 80 L st h
theorem x104_83 (d : Nat) (L st : List Value) (h : gd_H) : go gd_P0 d 104 83 L st h = gs gd_P0 d 104 83 L (i_goto 35 L st h) := go_eq gd_P0 d 104 83 L st h
theorem x104_86 (d : Nat) (L st : List Value) (h : gd_H) : go gd_P0 d 104 86 L st h = gs gd_P0 d 104 86 L (i_ild 4 88 L st h) := go_eq gd_P0 d 104 86 L st h
theorem x104_88 (d : Nat) (L st : List Value) (h : gd_H) : go gd_P0 d 104 88 L st h = gs gd_P0 d 104 88 L (i_ild 1 89 L st h) := go_eq gd_P0 d 104 88 L st h
theorem x104_89 (d : Nat) (L st : List Value) (h : gd_H) : go gd_P0 d 104 89 L st h = gs gd_P0 d 104 89 L (i_iclt 98 92 L st h) := go_eq gd_P0 d 104 89 L st h
theorem x104_92 (d : Nat) (L st : List Value) (h : gd_H) : go gd_P0 d 104 92 L st h = gs gd_P0 d 104 92 L (i_ild 4 94 L st h) := go_eq gd_P0 d 104 92 L st h
theorem x104_94 (d : Nat) (L st : List Value) (h : gd_H) : go gd_P0 d 104 94 L st h = gs gd_P0 d 104 94 L (i_ild 2 95 L st h) := go_eq gd_P0 d 104 94 L st h
theorem x104_95 (d : Nat) (L st : List Value) (h : gd_H) : go gd_P0 d 104 95 L st h = gs gd_P0 d 104 95 L (i_icle 108 98 L st h) := go_eq gd_P0 d 104 95 L st h
theorem x104_98 (d : Nat) (L st : List Value) (h : gd_H) : go gd_P0 d 104 98 L st h = gs gd_P0 d 104 98 L (i_msk [false, false, false, true, false] (i_new 11 8 101) L st h) := go_eq gd_P0 d 104 98 L st h
theorem x104_101 (d : Nat) (L st : List Value) (h : gd_H) : go gd_P0 d 104 101 L st h = gs gd_P0 d 104 101 L (i_dup 102 L st h) := go_eq gd_P0 d 104 101 L st h
theorem x104_102 (d : Nat) (L st : List Value) (h : gd_H) : go gd_P0 d 104 102 L st h = gs gd_P0 d 104 102 L (i_psh (.int 2) 103 L st h) := go_eq gd_P0 d 104 102 L st h
theorem x104_103 (d : Nat) (L st : List Value) (h : gd_H) : go gd_P0 d 104 103 L st h = gs gd_P0 d 104 103 L (i_ild 3 104 L st h) := go_eq gd_P0 d 104 103 L st h
theorem x104_104 (d : Nat) (L st : List Value) (h : gd_H) : go gd_P0 d 104 104 L st h = gs gd_P0 d 104 104 L (i_cV 111 2 11 107 L st h) := go_eq gd_P0 d 104 104 L st h
theorem x104_107 (d : Nat) (L st : List Value) (h : gd_H) : go gd_P0 d 104 107 L st h = gs gd_P0 d 104 107 L (i_thr L st h) := go_eq gd_P0 d 104 107 L st h
theorem x104_108 (d : Nat) (L st : List Value) (h : gd_H) : go gd_P0 d 104 108 L st h = gs gd_P0 d 104 108 L (i_ild 4 110 L st h) := go_eq gd_P0 d 104 108 L st h
theorem x104_110 (d : Nat) (L st : List Value) (h : gd_H) : go gd_P0 d 104 110 L st h = gs gd_P0 d 104 110 L (i_iret L st h) := go_eq gd_P0 d 104 110 L st h
theorem s104_0 (d : Nat) (h : gd_H) (v0 : Nat) (v1 : Int32) (v2 : Int32) : go gd_P0 d 104 0 [.ref v0, .int v1, .int v2, .null, .null] [] h =
    if gT h v0 = 10 then gc gd_P0 d 104 1 4 [.ref v0, .int v1, .int v2, .null, .null] [] (run gd_P0 d 99 [.ref v0] h) else none :=
  (x104_0 ..).trans ((x104_1 ..).trans ((gs_if ..).trans ((ia9 (by simp)).trans (ic9 rfl rfl))))
theorem s104_4 (d : Nat) (h : gd_H) (v0 : Nat) (v1 : Int32) (v2 : Int32) (w3 : Value) (w4 : Value) (z0 : Int32) : go gd_P0 d 104 4 [.ref v0, .int v1, .int v2, w3, w4] [.int z0] h =
    if gT h v0 = 10 then if gT h v0 = 10 then gc gd_P0 d 104 13 16 [.ref v0, .int v1, .int v2, .int z0, .int 0] [] (run gd_P0 d 98 [.ref v0, .int (gI h v0 2)] h) else none else none :=
  (x104_4 ..).trans ((x104_5 ..).trans ((x104_6 ..).trans ((x104_8 ..).trans ((x104_9 ..).trans ((x104_10 ..).trans ((gs_if ..).trans (ic9 ((x104_13 ..).trans ((gs_if ..).trans ((ia9 (by simp)).trans (ic9 rfl rfl)))) rfl)))))))
theorem s104_16 (d : Nat) (h : gd_H) (v0 : Nat) (v1 : Int32) (v2 : Int32) (v3 : Int32) (v4 : Int32) (z0 : Int32) : go gd_P0 d 104 16 [.ref v0, .int v1, .int v2, .int v3, .int v4] [.int z0] h =
    gc gd_P0 d 104 16 19 [.ref v0, .int v1, .int v2, .int v3, .int v4] [] (run gd_P0 d 105 [.int z0] h) :=
  (x104_16 ..)
theorem s104_19 (d : Nat) (h : gd_H) (v0 : Nat) (v1 : Int32) (v2 : Int32) (v3 : Int32) (v4 : Int32) (z0 : Int32) : go gd_P0 d 104 19 [.ref v0, .int v1, .int v2, .int v3, .int v4] [.int z0] h =
    if z0 = 0 then if gT (nw h 11 0 8) v0 = 10 then if gT (nw h 11 0 8) (gS h) = 11 then gc gd_P0 d 104 31 34 [.ref v0, .int v1, .int v2, .int v3, .int v4] [.ref (gS h)] (run gd_P0 d 111 [.ref (gS h), .int 1, .int (gI (nw h 11 0 8) v0 2)] (nw h 11 0 8)) else none else none else go gd_P0 d 104 35 [.ref v0, .int v1, .int v2, .int v3, .int v4] [] h :=
  (x104_19 ..).trans ((gs_nif ..).trans (ic9 ((x104_22 ..).trans ((x104_25 ..).trans ((x104_26 ..).trans ((x104_27 ..).trans ((x104_28 ..).trans ((gs_if ..).trans (ic9 ((x104_31 ..).trans ((gs_if ..).trans ((ia9 (by simp)).trans (ic9 rfl rfl)))) rfl))))))) (rfl)))
theorem s104_34 (d : Nat) (h : gd_H) (w0 : Value) (w1 : Value) (w2 : Value) (w3 : Value) (w4 : Value) (z0 : Nat) : go gd_P0 d 104 34 [w0, w1, w2, w3, w4] [.ref z0] h =
    if 4 ≤ z0 then gx gd_P0 d 104 34 [w0, w1, w2, w3, w4] z0 h else none :=
  (x104_34 ..).trans ((gs_if ..).trans (ic9 rfl rfl))
theorem s104_35 (d : Nat) (h : gd_H) (v0 : Nat) (v1 : Int32) (v2 : Int32) (v3 : Int32) (v4 : Int32) : go gd_P0 d 104 35 [.ref v0, .int v1, .int v2, .int v3, .int v4] [] h =
    if gT h v0 = 10 then if gT h v0 = 10 then gc gd_P0 d 104 40 43 [.ref v0, .int v1, .int v2, .int v3, .int v4] [] (run gd_P0 d 98 [.ref v0, .int (gI h v0 2)] h) else none else none :=
  (x104_35 ..).trans ((x104_36 ..).trans ((x104_37 ..).trans ((gs_if ..).trans (ic9 ((x104_40 ..).trans ((gs_if ..).trans ((ia9 (by simp)).trans (ic9 rfl rfl)))) rfl))))
theorem s104_43 (d : Nat) (h : gd_H) (v0 : Nat) (v1 : Int32) (v2 : Int32) (v3 : Int32) (v4 : Int32) (z0 : Int32) : go gd_P0 d 104 43 [.ref v0, .int v1, .int v2, .int v3, .int v4] [.int z0] h =
    gc gd_P0 d 104 43 46 [.ref v0, .int v1, .int v2, .int v3, .int v4] [] (run gd_P0 d 105 [.int z0] h) :=
  (x104_43 ..)
theorem s104_46 (d : Nat) (h : gd_H) (v0 : Nat) (v1 : Int32) (v2 : Int32) (v3 : Int32) (v4 : Int32) (z0 : Int32) : go gd_P0 d 104 46 [.ref v0, .int v1, .int v2, .int v3, .int v4] [.int z0] h =
    if z0 = 0 then if v4 < v1 then go gd_P0 d 104 98 [.ref v0, .int v1, .int v2, .int v3, .int v4] [] h else if v4 ≤ v2 then some (.inl (some (.int v4)), h) else go gd_P0 d 104 98 [.ref v0, .int v1, .int v2, .int v3, .int v4] [] h else if gT h v0 = 10 then if gT h v0 = 10 then gc gd_P0 d 104 59 62 [.ref v0, .int v1, .int v2, .int v3, .int v4] [.int (10 * v4)] (run gd_P0 d 98 [.ref v0, .int (gI h v0 2)] h) else none else none :=
  (x104_46 ..).trans ((gs_nif ..).trans (ic9 ((x104_86 ..).trans ((x104_88 ..).trans ((x104_89 ..).trans ((gs_if ..).trans (ic9 (rfl) ((x104_92 ..).trans ((x104_94 ..).trans ((x104_95 ..).trans ((gs_if ..).trans (ic9 ((x104_108 ..).trans ((x104_110 ..))) (rfl))))))))))) ((x104_49 ..).trans ((x104_51 ..).trans ((x104_53 ..).trans ((x104_54 ..).trans ((x104_55 ..).trans ((x104_56 ..).trans ((gs_if ..).trans (ic9 ((x104_59 ..).trans ((gs_if ..).trans ((ia9 (by simp)).trans (ic9 rfl rfl)))) rfl))))))))))
theorem s104_62 (d : Nat) (h : gd_H) (v0 : Nat) (v1 : Int32) (v2 : Int32) (v3 : Int32) (w4 : Value) (z0 : Int32) (z1 : Int32) : go gd_P0 d 104 62 [.ref v0, .int v1, .int v2, .int v3, w4] [.int z0, .int z1] h =
    go gd_P0 d 104 71 [.ref v0, .int v1, .int v2, .int v3, .null] [.int (if 1000000 < ((z1 + z0) - 48) then 1000000 else ((z1 + z0) - 48))] h :=
  (x104_62 ..).trans ((x104_63 ..).trans ((x104_65 ..).trans ((x104_66 ..).trans ((x104_68 ..)))))
theorem s104_71 (d : Nat) (h : gd_H) (v0 : Nat) (v1 : Int32) (v2 : Int32) (v3 : Int32) (w4 : Value) (z0 : Int32) : go gd_P0 d 104 71 [.ref v0, .int v1, .int v2, .int v3, w4] [.int z0] h =
    if gT h v0 = 10 then if gT h v0 = 10 then go gd_P0 d 104 35 [.ref v0, .int v1, .int v2, .int v3, .int z0] [] (wI h (up1 (gI h) v0 2 ((gI h v0 2) + 1))) else none else none :=
  (x104_71 ..).trans ((x104_73 ..).trans ((x104_74 ..).trans ((x104_75 ..).trans ((gs_if ..).trans (ic9 ((x104_78 ..).trans ((x104_79 ..).trans ((x104_80 ..).trans ((gs_if ..).trans (ic9 ((x104_83 ..)) rfl))))) rfl)))))
theorem s104_98 (d : Nat) (h : gd_H) (w0 : Value) (w1 : Value) (w2 : Value) (v3 : Int32) (w4 : Value) : go gd_P0 d 104 98 [w0, w1, w2, .int v3, w4] [] h =
    if gT (nw h 11 0 8) (gS h) = 11 then gc gd_P0 d 104 104 107 [.null, .null, .null, .int v3, .null] [.ref (gS h)] (run gd_P0 d 111 [.ref (gS h), .int 2, .int v3] (nw h 11 0 8)) else none :=
  (x104_98 ..).trans ((x104_101 ..).trans ((x104_102 ..).trans ((x104_103 ..).trans ((x104_104 ..).trans ((gs_if ..).trans ((ia9 (by simp)).trans (ic9 rfl rfl)))))))
theorem s104_107 (d : Nat) (h : gd_H) (w0 : Value) (w1 : Value) (w2 : Value) (w3 : Value) (w4 : Value) (z0 : Nat) : go gd_P0 d 104 107 [w0, w1, w2, w3, w4] [.ref z0] h =
    if 4 ≤ z0 then gx gd_P0 d 104 107 [w0, w1, w2, w3, w4] z0 h else none :=
  (x104_107 ..).trans ((gs_if ..).trans (ic9 rfl rfl))
theorem r104 (d : Nat) (h : gd_H) (v0 : Nat) (v1 : Int32) (v2 : Int32) : run gd_P0 (d + 1) 104 [.ref v0, .int v1, .int v2] h = go gd_P0 d 104 0 [.ref v0, .int v1, .int v2, .null, .null] [] h := run_succ gd_P0 d 104 [.ref v0, .int v1, .int v2] h (Nat.le_of_ble_eq_true rfl)
theorem x105_0 (d : Nat) (L st : List Value) (h : gd_H) : go gd_P0 d 105 0 L st h = gs gd_P0 d 105 0 L (i_ild 0 1 L st h) := go_eq gd_P0 d 105 0 L st h
theorem x105_1 (d : Nat) (L st : List Value) (h : gd_H) : go gd_P0 d 105 1 L st h = gs gd_P0 d 105 1 L (i_psh (.int 48) 3 L st h) := go_eq gd_P0 d 105 1 L st h
theorem x105_3 (d : Nat) (L st : List Value) (h : gd_H) : go gd_P0 d 105 3 L st h = gs gd_P0 d 105 3 L (i_iclt 16 6 L st h) := go_eq gd_P0 d 105 3 L st h
theorem x105_6 (d : Nat) (L st : List Value) (h : gd_H) : go gd_P0 d 105 6 L st h = gs gd_P0 d 105 6 L (i_ild 0 7 L st h) := go_eq gd_P0 d 105 6 L st h
theorem x105_7 (d : Nat) (L st : List Value) (h : gd_H) : go gd_P0 d 105 7 L st h = gs gd_P0 d 105 7 L (i_psh (.int 57) 9 L st h) := go_eq gd_P0 d 105 7 L st h
theorem x105_9 (d : Nat) (L st : List Value) (h : gd_H) : go gd_P0 d 105 9 L st h = gs gd_P0 d 105 9 L (i_icgt 16 12 L st h) := go_eq gd_P0 d 105 9 L st h
theorem x105_12 (d : Nat) (L st : List Value) (h : gd_H) : go gd_P0 d 105 12 L st h = gs gd_P0 d 105 12 L (i_psh (.int 1) 13 L st h) := go_eq gd_P0 d 105 12 L st h
theorem x105_13 (d : Nat) (L st : List Value) (h : gd_H) : go gd_P0 d 105 13 L st h = gs gd_P0 d 105 13 L (i_goto 17 L st h) := go_eq gd_P0 d 105 13 L st h
theorem x105_16 (d : Nat) (L st : List Value) (h : gd_H) : go gd_P0 d 105 16 L st h = gs gd_P0 d 105 16 L (i_msk [false] (i_psh (.int 0) 17) L st h) := go_eq gd_P0 d 105 16 L st h
theorem x105_17 (d : Nat) (L st : List Value) (h : gd_H) : go gd_P0 d 105 17 L st h = gs gd_P0 d 105 17 L (i_msk [false] (i_zret) L st h) := go_eq gd_P0 d 105 17 L st h
theorem s105_0 (d : Nat) (h : gd_H) (v0 : Int32) : go gd_P0 d 105 0 [.int v0] [] h =
    if v0 < 48 then go gd_P0 d 105 16 [.int v0] [] h else if 57 < v0 then go gd_P0 d 105 16 [.int v0] [] h else go gd_P0 d 105 17 [.int v0] [.int 1] h :=
  (x105_0 ..).trans ((x105_1 ..).trans ((x105_3 ..).trans ((gs_if ..).trans (ic9 (rfl) ((x105_6 ..).trans ((x105_7 ..).trans ((x105_9 ..).trans ((gs_if ..).trans (ic9 (rfl) ((x105_12 ..).trans ((x105_13 ..))))))))))))
theorem s105_16 (d : Nat) (h : gd_H) (w0 : Value) : go gd_P0 d 105 16 [w0] [] h =
    go gd_P0 d 105 17 [.null] [.int 0] h :=
  (x105_16 ..)
theorem s105_17 (d : Nat) (h : gd_H) (w0 : Value) (z0 : Int32) : go gd_P0 d 105 17 [w0] [.int z0] h =
    if z0 = 0 ∨ z0 = 1 then some (.inl (some (.int z0)), h) else none :=
  (x105_17 ..).trans ((gs_nif ..).trans (ic9 rfl rfl))
theorem r105 (d : Nat) (h : gd_H) (v0 : Int32) : run gd_P0 (d + 1) 105 [.int v0] h = go gd_P0 d 105 0 [.int v0] [] h := run_succ gd_P0 d 105 [.int v0] h (Nat.le_of_ble_eq_true rfl)
theorem x106_0 (d : Nat) (L st : List Value) (h : gd_H) : go gd_P0 d 106 0 L st h = gs gd_P0 d 106 0 L (i_ald 0 1 L st h) := go_eq gd_P0 d 106 0 L st h
theorem x106_1 (d : Nat) (L st : List Value) (h : gd_H) : go gd_P0 d 106 1 L st h = gs gd_P0 d 106 1 L (i_cV 97 0 10 4 L st h) := go_eq gd_P0 d 106 1 L st h
theorem x106_4 (d : Nat) (L st : List Value) (h : gd_H) : go gd_P0 d 106 4 L st h = gs gd_P0 d 106 4 L (i_msk [true, true] (i_ild 1 5) L st h) := go_eq gd_P0 d 106 4 L st h
theorem x106_5 (d : Nat) (L st : List Value) (h : gd_H) : go gd_P0 d 106 5 L st h = gs gd_P0 d 106 5 L (i_iceq 21 8 L st h) := go_eq gd_P0 d 106 5 L st h
theorem x106_8 (d : Nat) (L st : List Value) (h : gd_H) : go gd_P0 d 106 8 L st h = gs gd_P0 d 106 8 L (i_new 11 8 11 L st h) := go_eq gd_P0 d 106 8 L st h
theorem x106_11 (d : Nat) (L st : List Value) (h : gd_H) : go gd_P0 d 106 11 L st h = gs gd_P0 d 106 11 L (i_dup 12 L st h) := go_eq gd_P0 d 106 11 L st h
theorem x106_12 (d : Nat) (L st : List Value) (h : gd_H) : go gd_P0 d 106 12 L st h = gs gd_P0 d 106 12 L (i_psh (.int 1) 13 L st h) := go_eq gd_P0 d 106 12 L st h
theorem x106_13 (d : Nat) (L st : List Value) (h : gd_H) : go gd_P0 d 106 13 L st h = gs gd_P0 d 106 13 L (i_ald 0 14 L st h) := go_eq gd_P0 d 106 13 L st h
theorem x106_14 (d : Nat) (L st : List Value) (h : gd_H) : go gd_P0 d 106 14 L st h = gs gd_P0 d 106 14 L (i_getI 10 2 17 L st h) := go_eq gd_P0 d 106 14 L st h
theorem x106_17 (d : Nat) (L st : List Value) (h : gd_H) : go gd_P0 d 106 17 L st h = gs gd_P0 d 106 17 L (i_cV 111 2 11 20 L st h) := go_eq gd_P0 d 106 17 L st h
theorem x106_20 (d : Nat) (L st : List Value) (h : gd_H) : go gd_P0 d 106 20 L st h = gs gd_P0 d 106 20 L (i_thr L st h) := go_eq gd_P0 d 106 20 L st h
theorem x106_21 (d : Nat) (L st : List Value) (h : gd_H) : go gd_P0 d 106 21 L st h = gs gd_P0 d 106 21 L (i_ald 0 22 L st h) := go_eq gd_P0 d 106 21 L st h
theorem x106_22 (d : Nat) (L st : List Value) (h : gd_H) : go gd_P0 d 106 22 L st h = gs gd_P0 d 106 22 L (i_dup 23 L st h) := go_eq gd_P0 d 106 22 L st h
theorem x106_23 (d : Nat) (L st : List Value) (h : gd_H) : go gd_P0 d 106 23 L st h = gs gd_P0 d 106 23 L (i_getI 10 2 26 L st h) := go_eq gd_P0 d 106 23 L st h
theorem x106_26 (d : Nat) (L st : List Value) (h : gd_H) : go gd_P0 d 106 26 L st h = gs gd_P0 d 106 26 L (i_psh (.int 1) 27 L st h) := go_eq gd_P0 d 106 26 L st h
theorem x106_27 (d : Nat) (L st : List Value) (h : gd_H) : go gd_P0 d 106 27 L st h = gs gd_P0 d 106 27 L (i_iadd 28 L st h) := go_eq gd_P0 d 106 27 L st h
theorem x106_28 (d : Nat) (L st : List Value) (h : gd_H) : go gd_P0 d 106 28 L st h = gs gd_P0 d 106 28 L (i_putI 10 2 31 L st h) := go_eq gd_P0 d 106 28 L st h
theorem x106_31 (d : Nat) (L st : List Value) (h : gd_H) : go gd_P0 d 106 31 L st h = gs gd_P0 d 106 31 L (i_ret L st h) := go_eq gd_P0 d 106 31 L st h
theorem s106_0 (d : Nat) (h : gd_H) (v0 : Nat) (v1 : Int32) : go gd_P0 d 106 0 [.ref v0, .int v1] [] h =
    if gT h v0 = 10 then gc gd_P0 d 106 1 4 [.ref v0, .int v1] [] (run gd_P0 d 97 [.ref v0] h) else none :=
  (x106_0 ..).trans ((x106_1 ..).trans ((gs_if ..).trans ((ia9 (by simp)).trans (ic9 rfl rfl))))
theorem s106_4 (d : Nat) (h : gd_H) (v0 : Nat) (v1 : Int32) (z0 : Int32) : go gd_P0 d 106 4 [.ref v0, .int v1] [.int z0] h =
    if z0 = v1 then if gT h v0 = 10 then if gT h v0 = 10 then some (.inl none, (wI h (up1 (gI h) v0 2 ((gI h v0 2) + 1)))) else none else none else if gT (nw h 11 0 8) v0 = 10 then if gT (nw h 11 0 8) (gS h) = 11 then gc gd_P0 d 106 17 20 [.ref v0, .int v1] [.ref (gS h)] (run gd_P0 d 111 [.ref (gS h), .int 1, .int (gI (nw h 11 0 8) v0 2)] (nw h 11 0 8)) else none else none :=
  (x106_4 ..).trans ((x106_5 ..).trans ((gs_if ..).trans (ic9 ((x106_21 ..).trans ((x106_22 ..).trans ((x106_23 ..).trans ((gs_if ..).trans (ic9 ((x106_26 ..).trans ((x106_27 ..).trans ((x106_28 ..).trans ((gs_if ..).trans (ic9 ((x106_31 ..)) rfl))))) rfl))))) ((x106_8 ..).trans ((x106_11 ..).trans ((x106_12 ..).trans ((x106_13 ..).trans ((x106_14 ..).trans ((gs_if ..).trans (ic9 ((x106_17 ..).trans ((gs_if ..).trans ((ia9 (by simp)).trans (ic9 rfl rfl)))) rfl))))))))))
theorem s106_20 (d : Nat) (h : gd_H) (w0 : Value) (w1 : Value) (z0 : Nat) : go gd_P0 d 106 20 [w0, w1] [.ref z0] h =
    if 4 ≤ z0 then gx gd_P0 d 106 20 [w0, w1] z0 h else none :=
  (x106_20 ..).trans ((gs_if ..).trans (ic9 rfl rfl))
theorem r106 (d : Nat) (h : gd_H) (v0 : Nat) (v1 : Int32) : run gd_P0 (d + 1) 106 [.ref v0, .int v1] h = go gd_P0 d 106 0 [.ref v0, .int v1] [] h := run_succ gd_P0 d 106 [.ref v0, .int v1] h (Nat.le_of_ble_eq_true rfl)
theorem x107_0 (d : Nat) (L st : List Value) (h : gd_H) : go gd_P0 d 107 0 L st h = gs gd_P0 d 107 0 L (i_ald 0 1 L st h) := go_eq gd_P0 d 107 0 L st h
theorem x107_1 (d : Nat) (L st : List Value) (h : gd_H) : go gd_P0 d 107 1 L st h = gs gd_P0 d 107 1 L (i_getI 10 3 4 L st h) := go_eq gd_P0 d 107 1 L st h
theorem x107_4 (d : Nat) (L st : List Value) (h : gd_H) : go gd_P0 d 107 4 L st h = gs gd_P0 d 107 4 L (i_psh (.int 6) 6 L st h) := go_eq gd_P0 d 107 4 L st h
theorem x107_6 (d : Nat) (L st : List Value) (h : gd_H) : go gd_P0 d 107 6 L st h = gs gd_P0 d 107 6 L (i_icne 22 9 L st h) := go_eq gd_P0 d 107 6 L st h
theorem x107_9 (d : Nat) (L st : List Value) (h : gd_H) : go gd_P0 d 107 9 L st h = gs gd_P0 d 107 9 L (i_new 11 8 12 L st h) := go_eq gd_P0 d 107 9 L st h
theorem x107_12 (d : Nat) (L st : List Value) (h : gd_H) : go gd_P0 d 107 12 L st h = gs gd_P0 d 107 12 L (i_dup 13 L st h) := go_eq gd_P0 d 107 12 L st h
theorem x107_13 (d : Nat) (L st : List Value) (h : gd_H) : go gd_P0 d 107 13 L st h = gs gd_P0 d 107 13 L (i_psh (.int 3) 14 L st h) := go_eq gd_P0 d 107 13 L st h
theorem x107_14 (d : Nat) (L st : List Value) (h : gd_H) : go gd_P0 d 107 14 L st h = gs gd_P0 d 107 14 L (i_ald 0 15 L st h) := go_eq gd_P0 d 107 14 L st h
theorem x107_15 (d : Nat) (L st : List Value) (h : gd_H) : go gd_P0 d 107 15 L st h = gs gd_P0 d 107 15 L (i_cV 99 0 10 18 L st h) := go_eq gd_P0 d 107 15 L st h
theorem x107_18 (d : Nat) (L st : List Value) (h : gd_H) : go gd_P0 d 107 18 L st h = gs gd_P0 d 107 18 L (i_msk [false] (i_cV 111 2 11 21) L st h) := go_eq gd_P0 d 107 18 L st h
theorem x107_21 (d : Nat) (L st : List Value) (h : gd_H) : go gd_P0 d 107 21 L st h = gs gd_P0 d 107 21 L (i_thr L st h) := go_eq gd_P0 d 107 21 L st h
theorem x107_22 (d : Nat) (L st : List Value) (h : gd_H) : go gd_P0 d 107 22 L st h = gs gd_P0 d 107 22 L (i_ald 0 23 L st h) := go_eq gd_P0 d 107 22 L st h
theorem x107_23 (d : Nat) (L st : List Value) (h : gd_H) : go gd_P0 d 107 23 L st h = gs gd_P0 d 107 23 L (i_dup 24 L st h) := go_eq gd_P0 d 107 23 L st h
theorem x107_24 (d : Nat) (L st : List Value) (h : gd_H) : go gd_P0 d 107 24 L st h = gs gd_P0 d 107 24 L (i_getI 10 3 27 L st h) := go_eq gd_P0 d 107 24 L st h
theorem x107_27 (d : Nat) (L st : List Value) (h : gd_H) : go gd_P0 d 107 27 L st h = gs gd_P0 d 107 27 L (i_psh (.int 1) 28 L st h) := go_eq gd_P0 d 107 27 L st h
theorem x107_28 (d : Nat) (L st : List Value) (h : gd_H) : go gd_P0 d 107 28 L st h = gs gd_P0 d 107 28 L (i_iadd 29 L st h) := go_eq gd_P0 d 107 28 L st h
theorem x107_29 (d : Nat) (L st : List Value) (h : gd_H) : go gd_P0 d 107 29 L st h = gs gd_P0 d 107 29 L (i_putI 10 3 32 L st h) := go_eq gd_P0 d 107 29 L st h
theorem x107_32 (d : Nat) (L st : List Value) (h : gd_H) : go gd_P0 d 107 32 L st h = gs gd_P0 d 107 32 L (i_ret L st h) := go_eq gd_P0 d 107 32 L st h
theorem s107_0 (d : Nat) (h : gd_H) (v0 : Nat) : go gd_P0 d 107 0 [.ref v0] [] h =
    if gT h v0 = 10 then if (gI h v0 3) = 6 then if gT (nw h 11 0 8) v0 = 10 then gc gd_P0 d 107 15 18 [.ref v0] [.int 3, .ref (gS h), .ref (gS h)] (run gd_P0 d 99 [.ref v0] (nw h 11 0 8)) else none else if gT h v0 = 10 then if gT h v0 = 10 then some (.inl none, (wI h (up1 (gI h) v0 3 ((gI h v0 3) + 1)))) else none else none else none :=
  (x107_0 ..).trans ((x107_1 ..).trans ((gs_if ..).trans (ic9 ((x107_4 ..).trans ((x107_6 ..).trans ((gs_if ..).trans (ic9 ((x107_9 ..).trans ((x107_12 ..).trans ((x107_13 ..).trans ((x107_14 ..).trans ((x107_15 ..).trans ((gs_if ..).trans ((ia9 (by simp)).trans (ic9 rfl rfl)))))))) ((x107_22 ..).trans ((x107_23 ..).trans ((x107_24 ..).trans ((gs_if ..).trans (ic9 ((x107_27 ..).trans ((x107_28 ..).trans ((x107_29 ..).trans ((gs_if ..).trans (ic9 ((x107_32 ..)) rfl))))) rfl))))))))) rfl)))
theorem s107_18 (d : Nat) (h : gd_H) (w0 : Value) (z0 : Int32) (z1 : Int32) (z2 : Nat) (z3 : Nat) : go gd_P0 d 107 18 [w0] [.int z0, .int z1, .ref z2, .ref z3] h =
    if gT h z2 = 11 then gc gd_P0 d 107 18 21 [.null] [.ref z3] (run gd_P0 d 111 [.ref z2, .int z1, .int z0] h) else none :=
  (x107_18 ..).trans ((gs_nif ..).trans ((ia9 (by simp)).trans (ic9 rfl rfl)))
theorem s107_21 (d : Nat) (h : gd_H) (w0 : Value) (z0 : Nat) : go gd_P0 d 107 21 [w0] [.ref z0] h =
    if 4 ≤ z0 then gx gd_P0 d 107 21 [w0] z0 h else none :=
  (x107_21 ..).trans ((gs_if ..).trans (ic9 rfl rfl))
theorem r107 (d : Nat) (h : gd_H) (v0 : Nat) : run gd_P0 (d + 1) 107 [.ref v0] h = go gd_P0 d 107 0 [.ref v0] [] h := run_succ gd_P0 d 107 [.ref v0] h (Nat.le_of_ble_eq_true rfl)
theorem x108_0 (d : Nat) (L st : List Value) (h : gd_H) : go gd_P0 d 108 0 L st h = gs gd_P0 d 108 0 L (i_ald 0 1 L st h) := go_eq gd_P0 d 108 0 L st h
theorem x108_1 (d : Nat) (L st : List Value) (h : gd_H) : go gd_P0 d 108 1 L st h = gs gd_P0 d 108 1 L (i_dup 2 L st h) := go_eq gd_P0 d 108 1 L st h
theorem x108_2 (d : Nat) (L st : List Value) (h : gd_H) : go gd_P0 d 108 2 L st h = gs gd_P0 d 108 2 L (i_getI 10 3 5 L st h) := go_eq gd_P0 d 108 2 L st h
theorem x108_5 (d : Nat) (L st : List Value) (h : gd_H) : go gd_P0 d 108 5 L st h = gs gd_P0 d 108 5 L (i_psh (.int 1) 6 L st h) := go_eq gd_P0 d 108 5 L st h
theorem x108_6 (d : Nat) (L st : List Value) (h : gd_H) : go gd_P0 d 108 6 L st h = gs gd_P0 d 108 6 L (i_isub 7 L st h) := go_eq gd_P0 d 108 6 L st h
theorem x108_7 (d : Nat) (L st : List Value) (h : gd_H) : go gd_P0 d 108 7 L st h = gs gd_P0 d 108 7 L (i_putI 10 3 10 L st h) := go_eq gd_P0 d 108 7 L st h
theorem x108_10 (d : Nat) (L st : List Value) (h : gd_H) : go gd_P0 d 108 10 L st h = gs gd_P0 d 108 10 L (i_ret L st h) := go_eq gd_P0 d 108 10 L st h
theorem s108_0 (d : Nat) (h : gd_H) (v0 : Nat) : go gd_P0 d 108 0 [.ref v0] [] h =
    if gT h v0 = 10 then if gT h v0 = 10 then some (.inl none, (wI h (up1 (gI h) v0 3 ((gI h v0 3) - 1)))) else none else none :=
  (x108_0 ..).trans ((x108_1 ..).trans ((x108_2 ..).trans ((gs_if ..).trans (ic9 ((x108_5 ..).trans ((x108_6 ..).trans ((x108_7 ..).trans ((gs_if ..).trans (ic9 ((x108_10 ..)) rfl))))) rfl))))
theorem r108 (d : Nat) (h : gd_H) (v0 : Nat) : run gd_P0 (d + 1) 108 [.ref v0] h = go gd_P0 d 108 0 [.ref v0] [] h := run_succ gd_P0 d 108 [.ref v0] h (Nat.le_of_ble_eq_true rfl)
theorem x109_0 (d : Nat) (L st : List Value) (h : gd_H) : go gd_P0 d 109 0 L st h = gs gd_P0 d 109 0 L (i_ald 0 1 L st h) := go_eq gd_P0 d 109 0 L st h
theorem x109_1 (d : Nat) (L st : List Value) (h : gd_H) : go gd_P0 d 109 1 L st h = gs gd_P0 d 109 1 L (i_cV 97 0 10 4 L st h) := go_eq gd_P0 d 109 1 L st h
theorem x109_4 (d : Nat) (L st : List Value) (h : gd_H) : go gd_P0 d 109 4 L st h = gs gd_P0 d 109 4 L (i_msk [true, true, false] (i_ild 1 5) L st h) := go_eq gd_P0 d 109 4 L st h
theorem x109_5 (d : Nat) (L st : List Value) (h : gd_H) : go gd_P0 d 109 5 L st h = gs gd_P0 d 109 5 L (i_icne 12 8 L st h) := go_eq gd_P0 d 109 5 L st h
theorem x109_8 (d : Nat) (L st : List Value) (h : gd_H) : go gd_P0 d 109 8 L st h = gs gd_P0 d 109 8 L (i_psh (.int 1) 9 L st h) := go_eq gd_P0 d 109 8 L st h
theorem x109_9 (d : Nat) (L st : List Value) (h : gd_H) : go gd_P0 d 109 9 L st h = gs gd_P0 d 109 9 L (i_goto 13 L st h) := go_eq gd_P0 d 109 9 L st h
theorem x109_12 (d : Nat) (L st : List Value) (h : gd_H) : go gd_P0 d 109 12 L st h = gs gd_P0 d 109 12 L (i_psh (.int 0) 13 L st h) := go_eq gd_P0 d 109 12 L st h
theorem x109_13 (d : Nat) (L st : List Value) (h : gd_H) : go gd_P0 d 109 13 L st h = gs gd_P0 d 109 13 L (i_msk [true, false, false] (i_ist 2 14) L st h) := go_eq gd_P0 d 109 13 L st h
theorem x109_14 (d : Nat) (L st : List Value) (h : gd_H) : go gd_P0 d 109 14 L st h = gs gd_P0 d 109 14 L (i_ild 2 15 L st h) := go_eq gd_P0 d 109 14 L st h
theorem x109_15 (d : Nat) (L st : List Value) (h : gd_H) : go gd_P0 d 109 15 L st h = gs gd_P0 d 109 15 L (i_ifeq 28 18 L st h) := go_eq gd_P0 d 109 15 L st h
theorem x109_18 (d : Nat) (L st : List Value) (h : gd_H) : go gd_P0 d 109 18 L st h = gs gd_P0 d 109 18 L (i_ald 0 19 L st h) := go_eq gd_P0 d 109 18 L st h
theorem x109_19 (d : Nat) (L st : List Value) (h : gd_H) : go gd_P0 d 109 19 L st h = gs gd_P0 d 109 19 L (i_dup 20 L st h) := go_eq gd_P0 d 109 19 L st h
theorem x109_20 (d : Nat) (L st : List Value) (h : gd_H) : go gd_P0 d 109 20 L st h = gs gd_P0 d 109 20 L (i_getI 10 2 23 L st h) := go_eq gd_P0 d 109 20 L st h
theorem x109_23 (d : Nat) (L st : List Value) (h : gd_H) : go gd_P0 d 109 23 L st h = gs gd_P0 d 109 23 L (i_psh (.int 1) 24 L st h) := go_eq gd_P0 d 109 23 L st h
theorem x109_24 (d : Nat) (L st : List Value) (h : gd_H) : go gd_P0 d 109 24 L st h = gs gd_P0 d 109 24 L (i_iadd 25 L st h) := go_eq gd_P0 d 109 24 L st h
theorem x109_25 (d : Nat) (L st : List Value) (h : gd_H) : go gd_P0 d 109 25 L st h = gs gd_P0 d 109 25 L (i_putI 10 2 28 L st h) := go_eq gd_P0 d 109 25 L st h
theorem x109_28 (d : Nat) (L st : List Value) (h : gd_H) : go gd_P0 d 109 28 L st h = gs gd_P0 d 109 28 L (i_msk [false, false, true] (i_ild 2 29) L st h) := go_eq gd_P0 d 109 28 L st h
theorem x109_29 (d : Nat) (L st : List Value) (h : gd_H) : go gd_P0 d 109 29 L st h = gs gd_P0 d 109 29 L (i_zret L st h) := go_eq gd_P0 d 109 29 L st h
theorem s109_0 (d : Nat) (h : gd_H) (v0 : Nat) (v1 : Int32) : go gd_P0 d 109 0 [.ref v0, .int v1, .null] [] h =
    if gT h v0 = 10 then gc gd_P0 d 109 1 4 [.ref v0, .int v1, .null] [] (run gd_P0 d 97 [.ref v0] h) else none :=
  (x109_0 ..).trans ((x109_1 ..).trans ((gs_if ..).trans ((ia9 (by simp)).trans (ic9 rfl rfl))))
theorem s109_4 (d : Nat) (h : gd_H) (v0 : Nat) (v1 : Int32) (w2 : Value) (z0 : Int32) : go gd_P0 d 109 4 [.ref v0, .int v1, w2] [.int z0] h =
    if z0 = v1 then go gd_P0 d 109 13 [.ref v0, .int v1, .null] [.int 1] h else go gd_P0 d 109 13 [.ref v0, .int v1, .null] [.int 0] h :=
  (x109_4 ..).trans ((x109_5 ..).trans ((gs_if ..).trans (ic9 ((x109_8 ..).trans ((x109_9 ..))) ((x109_12 ..)))))
theorem s109_13 (d : Nat) (h : gd_H) (v0 : Nat) (w1 : Value) (w2 : Value) (z0 : Int32) : go gd_P0 d 109 13 [.ref v0, w1, w2] [.int z0] h =
    if z0 = 0 then go gd_P0 d 109 28 [.ref v0, .null, .int z0] [] h else if gT h v0 = 10 then if gT h v0 = 10 then go gd_P0 d 109 28 [.ref v0, .null, .int z0] [] (wI h (up1 (gI h) v0 2 ((gI h v0 2) + 1))) else none else none :=
  (x109_13 ..).trans ((x109_14 ..).trans ((x109_15 ..).trans ((gs_if ..).trans (ic9 (rfl) ((x109_18 ..).trans ((x109_19 ..).trans ((x109_20 ..).trans ((gs_if ..).trans (ic9 ((x109_23 ..).trans ((x109_24 ..).trans ((x109_25 ..).trans ((gs_if ..).trans (ic9 (rfl) rfl))))) rfl)))))))))
theorem s109_28 (d : Nat) (h : gd_H) (w0 : Value) (w1 : Value) (v2 : Int32) : go gd_P0 d 109 28 [w0, w1, .int v2] [] h =
    if v2 = 0 ∨ v2 = 1 then some (.inl (some (.int v2)), h) else none :=
  (x109_28 ..).trans ((x109_29 ..).trans ((gs_if ..).trans (ic9 rfl rfl)))
theorem r109 (d : Nat) (h : gd_H) (v0 : Nat) (v1 : Int32) : run gd_P0 (d + 1) 109 [.ref v0, .int v1] h = go gd_P0 d 109 0 [.ref v0, .int v1, .null] [] h := run_succ gd_P0 d 109 [.ref v0, .int v1] h (Nat.le_of_ble_eq_true rfl)
theorem x110_0 (d : Nat) (L st : List Value) (h : gd_H) : go gd_P0 d 110 0 L st h = gs gd_P0 d 110 0 L (i_ald 0 1 L st h) := go_eq gd_P0 d 110 0 L st h
theorem x110_1 (d : Nat) (L st : List Value) (h : gd_H) : go gd_P0 d 110 1 L st h = gs gd_P0 d 110 1 L (i_cV 97 0 10 4 L st h) := go_eq gd_P0 d 110 1 L st h
theorem x110_4 (d : Nat) (L st : List Value) (h : gd_H) : go gd_P0 d 110 4 L st h = gs gd_P0 d 110 4 L (i_msk [true] (i_psh (.int (-1)) 5) L st h) := go_eq gd_P0 d 110 4 L st h
theorem x110_5 (d : Nat) (L st : List Value) (h : gd_H) : go gd_P0 d 110 5 L st h = gs gd_P0 d 110 5 L (i_iceq 21 8 L st h) := go_eq gd_P0 d 110 5 L st h
theorem x110_8 (d : Nat) (L st : List Value) (h : gd_H) : go gd_P0 d 110 8 L st h = gs gd_P0 d 110 8 L (i_new 11 8 11 L st h) := go_eq gd_P0 d 110 8 L st h
theorem x110_11 (d : Nat) (L st : List Value) (h : gd_H) : go gd_P0 d 110 11 L st h = gs gd_P0 d 110 11 L (i_dup 12 L st h) := go_eq gd_P0 d 110 11 L st h
theorem x110_12 (d : Nat) (L st : List Value) (h : gd_H) : go gd_P0 d 110 12 L st h = gs gd_P0 d 110 12 L (i_psh (.int 1) 13 L st h) := go_eq gd_P0 d 110 12 L st h
theorem x110_13 (d : Nat) (L st : List Value) (h : gd_H) : go gd_P0 d 110 13 L st h = gs gd_P0 d 110 13 L (i_ald 0 14 L st h) := go_eq gd_P0 d 110 13 L st h
theorem x110_14 (d : Nat) (L st : List Value) (h : gd_H) : go gd_P0 d 110 14 L st h = gs gd_P0 d 110 14 L (i_getI 10 2 17 L st h) := go_eq gd_P0 d 110 14 L st h
theorem x110_17 (d : Nat) (L st : List Value) (h : gd_H) : go gd_P0 d 110 17 L st h = gs gd_P0 d 110 17 L (i_cV 111 2 11 20 L st h) := go_eq gd_P0 d 110 17 L st h
theorem x110_20 (d : Nat) (L st : List Value) (h : gd_H) : go gd_P0 d 110 20 L st h = gs gd_P0 d 110 20 L (i_thr L st h) := go_eq gd_P0 d 110 20 L st h
theorem x110_21 (d : Nat) (L st : List Value) (h : gd_H) : go gd_P0 d 110 21 L st h = gs gd_P0 d 110 21 L (i_ret L st h) := go_eq gd_P0 d 110 21 L st h
theorem s110_0 (d : Nat) (h : gd_H) (v0 : Nat) : go gd_P0 d 110 0 [.ref v0] [] h =
    if gT h v0 = 10 then gc gd_P0 d 110 1 4 [.ref v0] [] (run gd_P0 d 97 [.ref v0] h) else none :=
  (x110_0 ..).trans ((x110_1 ..).trans ((gs_if ..).trans ((ia9 (by simp)).trans (ic9 rfl rfl))))
theorem s110_4 (d : Nat) (h : gd_H) (v0 : Nat) (z0 : Int32) : go gd_P0 d 110 4 [.ref v0] [.int z0] h =
    if z0 = (-1) then some (.inl none, h) else if gT (nw h 11 0 8) v0 = 10 then if gT (nw h 11 0 8) (gS h) = 11 then gc gd_P0 d 110 17 20 [.ref v0] [.ref (gS h)] (run gd_P0 d 111 [.ref (gS h), .int 1, .int (gI (nw h 11 0 8) v0 2)] (nw h 11 0 8)) else none else none :=
  (x110_4 ..).trans ((x110_5 ..).trans ((gs_if ..).trans (ic9 ((x110_21 ..)) ((x110_8 ..).trans ((x110_11 ..).trans ((x110_12 ..).trans ((x110_13 ..).trans ((x110_14 ..).trans ((gs_if ..).trans (ic9 ((x110_17 ..).trans ((gs_if ..).trans ((ia9 (by simp)).trans (ic9 rfl rfl)))) rfl))))))))))
theorem s110_20 (d : Nat) (h : gd_H) (w0 : Value) (z0 : Nat) : go gd_P0 d 110 20 [w0] [.ref z0] h =
    if 4 ≤ z0 then gx gd_P0 d 110 20 [w0] z0 h else none :=
  (x110_20 ..).trans ((gs_if ..).trans (ic9 rfl rfl))
theorem r110 (d : Nat) (h : gd_H) (v0 : Nat) : run gd_P0 (d + 1) 110 [.ref v0] h = go gd_P0 d 110 0 [.ref v0] [] h := run_succ gd_P0 d 110 [.ref v0] h (Nat.le_of_ble_eq_true rfl)
theorem x111_0 (d : Nat) (L st : List Value) (h : gd_H) : go gd_P0 d 111 0 L st h = gs gd_P0 d 111 0 L (i_ald 0 1 L st h) := go_eq gd_P0 d 111 0 L st h
theorem x111_1 (d : Nat) (L st : List Value) (h : gd_H) : go gd_P0 d 111 1 L st h = gs gd_P0 d 111 1 L (i_psh (.ref 0) 2 L st h) := go_eq gd_P0 d 111 1 L st h
theorem x111_2 (d : Nat) (L st : List Value) (h : gd_H) : go gd_P0 d 111 2 L st h = gs gd_P0 d 111 2 L (i_psh (.ref 0) 3 L st h) := go_eq gd_P0 d 111 2 L st h
theorem x111_3 (d : Nat) (L st : List Value) (h : gd_H) : go gd_P0 d 111 3 L st h = gs gd_P0 d 111 3 L (i_psh (.int 0) 4 L st h) := go_eq gd_P0 d 111 3 L st h
theorem x111_4 (d : Nat) (L st : List Value) (h : gd_H) : go gd_P0 d 111 4 L st h = gs gd_P0 d 111 4 L (i_psh (.int 0) 5 L st h) := go_eq gd_P0 d 111 4 L st h
theorem x111_5 (d : Nat) (L st : List Value) (h : gd_H) : go gd_P0 d 111 5 L st h = gs gd_P0 d 111 5 L (i_cV 1 4 11 8 L st h) := go_eq gd_P0 d 111 5 L st h
theorem x111_8 (d : Nat) (L st : List Value) (h : gd_H) : go gd_P0 d 111 8 L st h = gs gd_P0 d 111 8 L (i_msk [true, true, true] (i_ald 0 9) L st h) := go_eq gd_P0 d 111 8 L st h
theorem x111_9 (d : Nat) (L st : List Value) (h : gd_H) : go gd_P0 d 111 9 L st h = gs gd_P0 d 111 9 L (i_ild 1 10 L st h) := go_eq gd_P0 d 111 9 L st h
theorem x111_10 (d : Nat) (L st : List Value) (h : gd_H) : go gd_P0 d 111 10 L st h = gs gd_P0 d 111 10 L (i_putI 11 6 13 L st h) := go_eq gd_P0 d 111 10 L st h
theorem x111_13 (d : Nat) (L st : List Value) (h : gd_H) : go gd_P0 d 111 13 L st h = gs gd_P0 d 111 13 L (i_ald 0 14 L st h) := go_eq gd_P0 d 111 13 L st h
theorem x111_14 (d : Nat) (L st : List Value) (h : gd_H) : go gd_P0 d 111 14 L st h = gs gd_P0 d 111 14 L (i_ild 2 15 L st h) := go_eq gd_P0 d 111 14 L st h
theorem x111_15 (d : Nat) (L st : List Value) (h : gd_H) : go gd_P0 d 111 15 L st h = gs gd_P0 d 111 15 L (i_putI 11 7 18 L st h) := go_eq gd_P0 d 111 15 L st h
theorem x111_18 (d : Nat) (L st : List Value) (h : gd_H) : go gd_P0 d 111 18 L st h = gs gd_P0 d 111 18 L (i_ret L st h) := go_eq gd_P0 d 111 18 L st h
theorem s111_0 (d : Nat) (h : gd_H) (v0 : Nat) (v1 : Int32) (v2 : Int32) : go gd_P0 d 111 0 [.ref v0, .int v1, .int v2] [] h =
    if gT h v0 = 11 then gc gd_P0 d 111 5 8 [.ref v0, .int v1, .int v2] [] (run gd_P0 d 1 [.ref v0, .ref 0, .ref 0, .int 0, .int 0] h) else none :=
  (x111_0 ..).trans ((x111_1 ..).trans ((x111_2 ..).trans ((x111_3 ..).trans ((x111_4 ..).trans ((x111_5 ..).trans ((gs_if ..).trans ((ia9 (by simp)).trans (ic9 rfl rfl))))))))
theorem s111_8 (d : Nat) (h : gd_H) (v0 : Nat) (v1 : Int32) (v2 : Int32) : go gd_P0 d 111 8 [.ref v0, .int v1, .int v2] [] h =
    if gT h v0 = 11 then if gT h v0 = 11 then some (.inl none, (wI h (up1 (up1 (gI h) v0 6 v1) v0 7 v2))) else none else none :=
  (x111_8 ..).trans ((x111_9 ..).trans ((x111_10 ..).trans ((gs_if ..).trans (ic9 ((x111_13 ..).trans ((x111_14 ..).trans ((x111_15 ..).trans ((gs_if ..).trans (ic9 ((x111_18 ..)) rfl))))) rfl))))
theorem r111 (d : Nat) (h : gd_H) (v0 : Nat) (v1 : Int32) (v2 : Int32) : run gd_P0 (d + 1) 111 [.ref v0, .int v1, .int v2] h = go gd_P0 d 111 0 [.ref v0, .int v1, .int v2] [] h := run_succ gd_P0 d 111 [.ref v0, .int v1, .int v2] h (Nat.le_of_ble_eq_true rfl)
theorem x112_0 (d : Nat) (L st : List Value) (h : gd_H) : go gd_P0 d 112 0 L st h = gs gd_P0 d 112 0 L (i_ald 0 1 L st h) := go_eq gd_P0 d 112 0 L st h
theorem x112_1 (d : Nat) (L st : List Value) (h : gd_H) : go gd_P0 d 112 1 L st h = gs gd_P0 d 112 1 L (i_oin 4 L st h) := go_eq gd_P0 d 112 1 L st h
theorem x112_4 (d : Nat) (L st : List Value) (h : gd_H) : go gd_P0 d 112 4 L st h = gs gd_P0 d 112 4 L (i_msk [true, true] (i_ald 0 5) L st h) := go_eq gd_P0 d 112 4 L st h
theorem x112_5 (d : Nat) (L st : List Value) (h : gd_H) : go gd_P0 d 112 5 L st h = gs gd_P0 d 112 5 L (i_psh (.int 8) 7 L st h) := go_eq gd_P0 d 112 5 L st h
theorem x112_7 (d : Nat) (L st : List Value) (h : gd_H) : go gd_P0 d 112 7 L st h = gs gd_P0 d 112 7 L (i_newa 38 10 L st h) := go_eq gd_P0 d 112 7 L st h
theorem x112_10 (d : Nat) (L st : List Value) (h : gd_H) : go gd_P0 d 112 10 L st h = gs gd_P0 d 112 10 L (i_dup 11 L st h) := go_eq gd_P0 d 112 10 L st h
theorem x112_11 (d : Nat) (L st : List Value) (h : gd_H) : go gd_P0 d 112 11 L st h = gs gd_P0 d 112 11 L (i_psh (.int 0) 12 L st h) := go_eq gd_P0 d 112 11 L st h
theorem x112_12 (d : Nat) (L st : List Value) (h : gd_H) : go gd_P0 d 112 12 L st h = gs gd_P0 d 112 12 L (i_psh (.ref 16) 14 L st h) := go_eq gd_P0 d 112 12 L st h
theorem x112_14 (d : Nat) (L st : List Value) (h : gd_H) : go gd_P0 d 112 14 L st h = gs gd_P0 d 112 14 L (i_astS 15 L st h) := go_eq gd_P0 d 112 14 L st h
theorem x112_15 (d : Nat) (L st : List Value) (h : gd_H) : go gd_P0 d 112 15 L st h = gs gd_P0 d 112 15 L (i_dup 16 L st h) := go_eq gd_P0 d 112 15 L st h
theorem x112_16 (d : Nat) (L st : List Value) (h : gd_H) : go gd_P0 d 112 16 L st h = gs gd_P0 d 112 16 L (i_psh (.int 1) 17 L st h) := go_eq gd_P0 d 112 16 L st h
theorem x112_17 (d : Nat) (L st : List Value) (h : gd_H) : go gd_P0 d 112 17 L st h = gs gd_P0 d 112 17 L (i_psh (.ref 18) 19 L st h) := go_eq gd_P0 d 112 17 L st h
theorem x112_19 (d : Nat) (L st : List Value) (h : gd_H) : go gd_P0 d 112 19 L st h = gs gd_P0 d 112 19 L (i_astS 20 L st h) := go_eq gd_P0 d 112 19 L st h
theorem x112_20 (d : Nat) (L st : List Value) (h : gd_H) : go gd_P0 d 112 20 L st h = gs gd_P0 d 112 20 L (i_dup 21 L st h) := go_eq gd_P0 d 112 20 L st h
theorem x112_21 (d : Nat) (L st : List Value) (h : gd_H) : go gd_P0 d 112 21 L st h = gs gd_P0 d 112 21 L (i_psh (.int 2) 22 L st h) := go_eq gd_P0 d 112 21 L st h
theorem x112_22 (d : Nat) (L st : List Value) (h : gd_H) : go gd_P0 d 112 22 L st h = gs gd_P0 d 112 22 L (i_psh (.ref 20) 24 L st h) := go_eq gd_P0 d 112 22 L st h
theorem x112_24 (d : Nat) (L st : List Value) (h : gd_H) : go gd_P0 d 112 24 L st h = gs gd_P0 d 112 24 L (i_astS 25 L st h) := go_eq gd_P0 d 112 24 L st h
theorem x112_25 (d : Nat) (L st : List Value) (h : gd_H) : go gd_P0 d 112 25 L st h = gs gd_P0 d 112 25 L (i_dup 26 L st h) := go_eq gd_P0 d 112 25 L st h
theorem x112_26 (d : Nat) (L st : List Value) (h : gd_H) : go gd_P0 d 112 26 L st h = gs gd_P0 d 112 26 L (i_psh (.int 3) 27 L st h) := go_eq gd_P0 d 112 26 L st h
theorem x112_27 (d : Nat) (L st : List Value) (h : gd_H) : go gd_P0 d 112 27 L st h = gs gd_P0 d 112 27 L (i_psh (.ref 22) 29 L st h) := go_eq gd_P0 d 112 27 L st h
theorem x112_29 (d : Nat) (L st : List Value) (h : gd_H) : go gd_P0 d 112 29 L st h = gs gd_P0 d 112 29 L (i_astS 30 L st h) := go_eq gd_P0 d 112 29 L st h
theorem x112_30 (d : Nat) (L st : List Value) (h : gd_H) : go gd_P0 d 112 30 L st h = gs gd_P0 d 112 30 L (i_dup 31 L st h) := go_eq gd_P0 d 112 30 L st h
theorem x112_31 (d : Nat) (L st : List Value) (h : gd_H) : go gd_P0 d 112 31 L st h = gs gd_P0 d 112 31 L (i_psh (.int 4) 32 L st h) := go_eq gd_P0 d 112 31 L st h
theorem x112_32 (d : Nat) (L st : List Value) (h : gd_H) : go gd_P0 d 112 32 L st h = gs gd_P0 d 112 32 L (i_psh (.ref 24) 34 L st h) := go_eq gd_P0 d 112 32 L st h
theorem x112_34 (d : Nat) (L st : List Value) (h : gd_H) : go gd_P0 d 112 34 L st h = gs gd_P0 d 112 34 L (i_astS 35 L st h) := go_eq gd_P0 d 112 34 L st h
theorem x112_35 (d : Nat) (L st : List Value) (h : gd_H) : go gd_P0 d 112 35 L st h = gs gd_P0 d 112 35 L (i_dup 36 L st h) := go_eq gd_P0 d 112 35 L st h
theorem x112_36 (d : Nat) (L st : List Value) (h : gd_H) : go gd_P0 d 112 36 L st h = gs gd_P0 d 112 36 L (i_psh (.int 5) 37 L st h) := go_eq gd_P0 d 112 36 L st h
theorem x112_37 (d : Nat) (L st : List Value) (h : gd_H) : go gd_P0 d 112 37 L st h = gs gd_P0 d 112 37 L (i_psh (.ref 26) 39 L st h) := go_eq gd_P0 d 112 37 L st h
theorem x112_39 (d : Nat) (L st : List Value) (h : gd_H) : go gd_P0 d 112 39 L st h = gs gd_P0 d 112 39 L (i_astS 40 L st h) := go_eq gd_P0 d 112 39 L st h
theorem x112_40 (d : Nat) (L st : List Value) (h : gd_H) : go gd_P0 d 112 40 L st h = gs gd_P0 d 112 40 L (i_dup 41 L st h) := go_eq gd_P0 d 112 40 L st h
theorem x112_41 (d : Nat) (L st : List Value) (h : gd_H) : go gd_P0 d 112 41 L st h = gs gd_P0 d 112 41 L (i_psh (.int 6) 43 L st h) := go_eq gd_P0 d 112 41 L st h
theorem x112_43 (d : Nat) (L st : List Value) (h : gd_H) : go gd_P0 d 112 43 L st h = gs gd_P0 d 112 43 L (i_psh (.ref 28) 45 L st h) := go_eq gd_P0 d 112 43 L st h
theorem x112_45 (d : Nat) (L st : List Value) (h : gd_H) : go gd_P0 d 112 45 L st h = gs gd_P0 d 112 45 L (i_astS 46 L st h) := go_eq gd_P0 d 112 45 L st h
theorem x112_46 (d : Nat) (L st : List Value) (h : gd_H) : go gd_P0 d 112 46 L st h = gs gd_P0 d 112 46 L (i_dup 47 L st h) := go_eq gd_P0 d 112 46 L st h
theorem x112_47 (d : Nat) (L st : List Value) (h : gd_H) : go gd_P0 d 112 47 L st h = gs gd_P0 d 112 47 L (i_psh (.int 7) 49 L st h) := go_eq gd_P0 d 112 47 L st h
theorem x112_49 (d : Nat) (L st : List Value) (h : gd_H) : go gd_P0 d 112 49 L st h = gs gd_P0 d 112 49 L (i_psh (.ref 30) 51 L st h) := go_eq gd_P0 d 112 49 L st h
theorem x112_51 (d : Nat) (L st : List Value) (h : gd_H) : go gd_P0 d 112 51 L st h = gs gd_P0 d 112 51 L (i_astS 52 L st h) := go_eq gd_P0 d 112 51 L st h
theorem x112_52 (d : Nat) (L st : List Value) (h : gd_H) : go gd_P0 d 112 52 L st h = gs gd_P0 d 112 52 L (i_putR 12 0 55 L st h) := go_eq gd_P0 d 112 52 L st h
theorem x112_55 (d : Nat) (L st : List Value) (h : gd_H) : go gd_P0 d 112 55 L st h = gs gd_P0 d 112 55 L (i_ald 0 56 L st h) := go_eq gd_P0 d 112 55 L st h
theorem x112_56 (d : Nat) (L st : List Value) (h : gd_H) : go gd_P0 d 112 56 L st h = gs gd_P0 d 112 56 L (i_ald 1 57 L st h) := go_eq gd_P0 d 112 56 L st h
theorem x112_57 (d : Nat) (L st : List Value) (h : gd_H) : go gd_P0 d 112 57 L st h = gs gd_P0 d 112 57 L (i_putR 12 1 60 L st h) := go_eq gd_P0 d 112 57 L st h
theorem x112_60 (d : Nat) (L st : List Value) (h : gd_H) : go gd_P0 d 112 60 L st h = gs gd_P0 d 112 60 L (i_ret L st h) := go_eq gd_P0 d 112 60 L st h
theorem s112_0 (d : Nat) (h : gd_H) (v0 : Nat) (v1 : Nat) : go gd_P0 d 112 0 [.ref v0, .ref v1] [] h =
    if 4 ≤ v0 then go gd_P0 d 112 4 [.ref v0, .ref v1] [] h else none :=
  (x112_0 ..).trans ((x112_1 ..).trans ((gs_if ..).trans ((ia9 (by simp)).trans (ic9 (rfl) rfl))))
theorem s112_4 (d : Nat) (h : gd_H) (v0 : Nat) (v1 : Nat) : go gd_P0 d 112 4 [.ref v0, .ref v1] [] h =
    if gT (nw h 38 (Int32.toNatClampNeg 8) (Int32.toNatClampNeg 8)) (gS h) = 38 ∧ ((gT (nw h 38 (Int32.toNatClampNeg 8) (Int32.toNatClampNeg 8)) 16 = 23 ∧ 16 < 96) ∧ ¬ ((0 : Int32) < 0 ∨ gL (nw h 38 (Int32.toNatClampNeg 8) (Int32.toNatClampNeg 8)) (gS h) ≤ Int32.toNatClampNeg (0 : Int32))) then if gT (nw h 38 (Int32.toNatClampNeg 8) (Int32.toNatClampNeg 8)) (gS h) = 38 ∧ ((gT (nw h 38 (Int32.toNatClampNeg 8) (Int32.toNatClampNeg 8)) 18 = 23 ∧ 18 < 96) ∧ ¬ ((1 : Int32) < 0 ∨ gL (nw h 38 (Int32.toNatClampNeg 8) (Int32.toNatClampNeg 8)) (gS h) ≤ Int32.toNatClampNeg (1 : Int32))) then if gT (nw h 38 (Int32.toNatClampNeg 8) (Int32.toNatClampNeg 8)) (gS h) = 38 ∧ ((gT (nw h 38 (Int32.toNatClampNeg 8) (Int32.toNatClampNeg 8)) 20 = 23 ∧ 20 < 96) ∧ ¬ ((2 : Int32) < 0 ∨ gL (nw h 38 (Int32.toNatClampNeg 8) (Int32.toNatClampNeg 8)) (gS h) ≤ Int32.toNatClampNeg (2 : Int32))) then if gT (nw h 38 (Int32.toNatClampNeg 8) (Int32.toNatClampNeg 8)) (gS h) = 38 ∧ ((gT (nw h 38 (Int32.toNatClampNeg 8) (Int32.toNatClampNeg 8)) 22 = 23 ∧ 22 < 96) ∧ ¬ ((3 : Int32) < 0 ∨ gL (nw h 38 (Int32.toNatClampNeg 8) (Int32.toNatClampNeg 8)) (gS h) ≤ Int32.toNatClampNeg (3 : Int32))) then if gT (nw h 38 (Int32.toNatClampNeg 8) (Int32.toNatClampNeg 8)) (gS h) = 38 ∧ ((gT (nw h 38 (Int32.toNatClampNeg 8) (Int32.toNatClampNeg 8)) 24 = 23 ∧ 24 < 96) ∧ ¬ ((4 : Int32) < 0 ∨ gL (nw h 38 (Int32.toNatClampNeg 8) (Int32.toNatClampNeg 8)) (gS h) ≤ Int32.toNatClampNeg (4 : Int32))) then if gT (nw h 38 (Int32.toNatClampNeg 8) (Int32.toNatClampNeg 8)) (gS h) = 38 ∧ ((gT (nw h 38 (Int32.toNatClampNeg 8) (Int32.toNatClampNeg 8)) 26 = 23 ∧ 26 < 96) ∧ ¬ ((5 : Int32) < 0 ∨ gL (nw h 38 (Int32.toNatClampNeg 8) (Int32.toNatClampNeg 8)) (gS h) ≤ Int32.toNatClampNeg (5 : Int32))) then if gT (nw h 38 (Int32.toNatClampNeg 8) (Int32.toNatClampNeg 8)) (gS h) = 38 ∧ ((gT (nw h 38 (Int32.toNatClampNeg 8) (Int32.toNatClampNeg 8)) 28 = 23 ∧ 28 < 96) ∧ ¬ ((6 : Int32) < 0 ∨ gL (nw h 38 (Int32.toNatClampNeg 8) (Int32.toNatClampNeg 8)) (gS h) ≤ Int32.toNatClampNeg (6 : Int32))) then if gT (nw h 38 (Int32.toNatClampNeg 8) (Int32.toNatClampNeg 8)) (gS h) = 38 ∧ ((gT (nw h 38 (Int32.toNatClampNeg 8) (Int32.toNatClampNeg 8)) 30 = 23 ∧ 30 < 96) ∧ ¬ ((7 : Int32) < 0 ∨ gL (nw h 38 (Int32.toNatClampNeg 8) (Int32.toNatClampNeg 8)) (gS h) ≤ Int32.toNatClampNeg (7 : Int32))) then if gT (nw h 38 (Int32.toNatClampNeg 8) (Int32.toNatClampNeg 8)) v0 = 12 then if gT (nw h 38 (Int32.toNatClampNeg 8) (Int32.toNatClampNeg 8)) v0 = 12 then some (.inl none, (wR (nw h 38 (Int32.toNatClampNeg 8) (Int32.toNatClampNeg 8)) (up1 (up1 (up1 (up1 (up1 (up1 (up1 (up1 (up1 (up1 (gR (nw h 38 (Int32.toNatClampNeg 8) (Int32.toNatClampNeg 8))) (gS h) (Int32.toNatClampNeg (0 : Int32)) 16) (gS h) (Int32.toNatClampNeg (1 : Int32)) 18) (gS h) (Int32.toNatClampNeg (2 : Int32)) 20) (gS h) (Int32.toNatClampNeg (3 : Int32)) 22) (gS h) (Int32.toNatClampNeg (4 : Int32)) 24) (gS h) (Int32.toNatClampNeg (5 : Int32)) 26) (gS h) (Int32.toNatClampNeg (6 : Int32)) 28) (gS h) (Int32.toNatClampNeg (7 : Int32)) 30) v0 0 (gS h)) v0 1 v1))) else none else none else none else none else none else none else none else none else none else none :=
  (x112_4 ..).trans ((x112_5 ..).trans ((x112_7 ..).trans ((x112_10 ..).trans ((x112_11 ..).trans ((x112_12 ..).trans ((x112_14 ..).trans ((gs_if ..).trans (ic9 ((x112_15 ..).trans ((x112_16 ..).trans ((x112_17 ..).trans ((x112_19 ..).trans ((gs_if ..).trans (ic9 ((x112_20 ..).trans ((x112_21 ..).trans ((x112_22 ..).trans ((x112_24 ..).trans ((gs_if ..).trans (ic9 ((x112_25 ..).trans ((x112_26 ..).trans ((x112_27 ..).trans ((x112_29 ..).trans ((gs_if ..).trans (ic9 ((x112_30 ..).trans ((x112_31 ..).trans ((x112_32 ..).trans ((x112_34 ..).trans ((gs_if ..).trans (ic9 ((x112_35 ..).trans ((x112_36 ..).trans ((x112_37 ..).trans ((x112_39 ..).trans ((gs_if ..).trans (ic9 ((x112_40 ..).trans ((x112_41 ..).trans ((x112_43 ..).trans ((x112_45 ..).trans ((gs_if ..).trans (ic9 ((x112_46 ..).trans ((x112_47 ..).trans ((x112_49 ..).trans ((x112_51 ..).trans ((gs_if ..).trans (ic9 ((x112_52 ..).trans ((gs_if ..).trans (ic9 ((x112_55 ..).trans ((x112_56 ..).trans ((x112_57 ..).trans ((gs_if ..).trans (ic9 ((x112_60 ..)) rfl))))) rfl))) rfl)))))) rfl)))))) rfl)))))) rfl)))))) rfl)))))) rfl)))))) rfl)))))) rfl))))))))
theorem r112 (d : Nat) (h : gd_H) (v0 : Nat) (v1 : Nat) : run gd_P0 (d + 1) 112 [.ref v0, .ref v1] h = go gd_P0 d 112 0 [.ref v0, .ref v1] [] h := run_succ gd_P0 d 112 [.ref v0, .ref v1] h (Nat.le_of_ble_eq_true rfl)
theorem x113_0 (d : Nat) (L st : List Value) (h : gd_H) : go gd_P0 d 113 0 L st h = gs gd_P0 d 113 0 L (i_ald 0 1 L st h) := go_eq gd_P0 d 113 0 L st h
theorem x113_1 (d : Nat) (L st : List Value) (h : gd_H) : go gd_P0 d 113 1 L st h = gs gd_P0 d 113 1 L (i_cV 114 0 12 4 L st h) := go_eq gd_P0 d 113 1 L st h
theorem x113_4 (d : Nat) (L st : List Value) (h : gd_H) : go gd_P0 d 113 4 L st h = gs gd_P0 d 113 4 L (i_msk [true, false] (i_ast 1 5) L st h) := go_eq gd_P0 d 113 4 L st h
theorem x113_5 (d : Nat) (L st : List Value) (h : gd_H) : go gd_P0 d 113 5 L st h = gs gd_P0 d 113 5 L (i_ald 0 6 L st h) := go_eq gd_P0 d 113 5 L st h
theorem x113_6 (d : Nat) (L st : List Value) (h : gd_H) : go gd_P0 d 113 6 L st h = gs gd_P0 d 113 6 L (i_getR 12 1 9 L st h) := go_eq gd_P0 d 113 6 L st h
theorem x113_9 (d : Nat) (L st : List Value) (h : gd_H) : go gd_P0 d 113 9 L st h = gs gd_P0 d 113 9 L (i_cV 110 0 10 12 L st h) := go_eq gd_P0 d 113 9 L st h
theorem x113_12 (d : Nat) (L st : List Value) (h : gd_H) : go gd_P0 d 113 12 L st h = gs gd_P0 d 113 12 L (i_msk [false, true] (i_ald 1 13) L st h) := go_eq gd_P0 d 113 12 L st h
theorem x113_13 (d : Nat) (L st : List Value) (h : gd_H) : go gd_P0 d 113 13 L st h = gs gd_P0 d 113 13 L (i_aret L st h) := go_eq gd_P0 d 113 13 L st h
theorem s113_0 (d : Nat) (h : gd_H) (v0 : Nat) : go gd_P0 d 113 0 [.ref v0, .null] [] h =
    if gT h v0 = 12 then gc gd_P0 d 113 1 4 [.ref v0, .null] [] (run gd_P0 d 114 [.ref v0] h) else none :=
  (x113_0 ..).trans ((x113_1 ..).trans ((gs_if ..).trans ((ia9 (by simp)).trans (ic9 rfl rfl))))
theorem s113_4 (d : Nat) (h : gd_H) (v0 : Nat) (w1 : Value) (z0 : Nat) : go gd_P0 d 113 4 [.ref v0, w1] [.ref z0] h =
    if gT h v0 = 12 then if gT h (gR h v0 1) = 10 then gc gd_P0 d 113 9 12 [.ref v0, .ref z0] [] (run gd_P0 d 110 [.ref (gR h v0 1)] h) else none else none :=
  (x113_4 ..).trans ((x113_5 ..).trans ((x113_6 ..).trans ((gs_if ..).trans (ic9 ((x113_9 ..).trans ((gs_if ..).trans ((ia9 (by simp)).trans (ic9 rfl rfl)))) rfl))))
theorem s113_12 (d : Nat) (h : gd_H) (w0 : Value) (v1 : Nat) : go gd_P0 d 113 12 [w0, .ref v1] [] h =
    some (.inl (some (.ref v1)), h) :=
  (x113_12 ..).trans ((x113_13 ..))
theorem r113 (d : Nat) (h : gd_H) (v0 : Nat) : run gd_P0 (d + 1) 113 [.ref v0] h = go gd_P0 d 113 0 [.ref v0, .null] [] h := run_succ gd_P0 d 113 [.ref v0] h (Nat.le_of_ble_eq_true rfl)
theorem x114_0 (d : Nat) (L st : List Value) (h : gd_H) : go gd_P0 d 114 0 L st h = gs gd_P0 d 114 0 L (i_ald 0 1 L st h) := go_eq gd_P0 d 114 0 L st h
theorem x114_1 (d : Nat) (L st : List Value) (h : gd_H) : go gd_P0 d 114 1 L st h = gs gd_P0 d 114 1 L (i_cV 115 0 12 4 L st h) := go_eq gd_P0 d 114 1 L st h
theorem x114_4 (d : Nat) (L st : List Value) (h : gd_H) : go gd_P0 d 114 4 L st h = gs gd_P0 d 114 4 L (i_msk [true, false] (i_ast 1 5) L st h) := go_eq gd_P0 d 114 4 L st h
theorem x114_5 (d : Nat) (L st : List Value) (h : gd_H) : go gd_P0 d 114 5 L st h = gs gd_P0 d 114 5 L (i_msk [true, true] (i_ald 0 6) L st h) := go_eq gd_P0 d 114 5 L st h
theorem x114_6 (d : Nat) (L st : List Value) (h : gd_H) : go gd_P0 d 114 6 L st h = gs gd_P0 d 114 6 L (i_getR 12 1 9 L st h) := go_eq gd_P0 d 114 6 L st h
theorem x114_9 (d : Nat) (L st : List Value) (h : gd_H) : go gd_P0 d 114 9 L st h = gs gd_P0 d 114 9 L (i_psh (.int 43) 11 L st h) := go_eq gd_P0 d 114 9 L st h
theorem x114_11 (d : Nat) (L st : List Value) (h : gd_H) : go gd_P0 d 114 11 L st h = gs gd_P0 d 114 11 L (i_cV 109 1 10 14 L st h) := go_eq gd_P0 d 114 11 L st h
theorem x114_14 (d : Nat) (L st : List Value) (h : gd_H) : go gd_P0 d 114 14 L st h = gs gd_P0 d 114 14 L (i_msk [true, true] (i_ifeq 35 17) L st h) := go_eq gd_P0 d 114 14 L st h
theorem x114_17 (d : Nat) (L st : List Value) (h : gd_H) : go gd_P0 d 114 17 L st h = gs gd_P0 d 114 17 L (i_new 13 3 20 L st h) := go_eq gd_P0 d 114 17 L st h
theorem x114_20 (d : Nat) (L st : List Value) (h : gd_H) : go gd_P0 d 114 20 L st h = gs gd_P0 d 114 20 L (i_dup 21 L st h) := go_eq gd_P0 d 114 20 L st h
theorem x114_21 (d : Nat) (L st : List Value) (h : gd_H) : go gd_P0 d 114 21 L st h = gs gd_P0 d 114 21 L (i_psh (.int 43) 23 L st h) := go_eq gd_P0 d 114 21 L st h
theorem x114_23 (d : Nat) (L st : List Value) (h : gd_H) : go gd_P0 d 114 23 L st h = gs gd_P0 d 114 23 L (i_ald 1 24 L st h) := go_eq gd_P0 d 114 23 L st h
theorem x114_24 (d : Nat) (L st : List Value) (h : gd_H) : go gd_P0 d 114 24 L st h = gs gd_P0 d 114 24 L (i_ald 0 25 L st h) := go_eq gd_P0 d 114 24 L st h
theorem x114_25 (d : Nat) (L st : List Value) (h : gd_H) : go gd_P0 d 114 25 L st h = gs gd_P0 d 114 25 L (i_cV 115 0 12 28 L st h) := go_eq gd_P0 d 114 25 L st h
theorem x114_28 (d : Nat) (L st : List Value) (h : gd_H) : go gd_P0 d 114 28 L st h = gs gd_P0 d 114 28 L (i_msk [true, false] (i_cV 117 3 13 31) L st h) := go_eq gd_P0 d 114 28 L st h
theorem x114_31 (d : Nat) (L st : List Value) (h : gd_H) : go gd_P0 d 114 31 L st h = gs gd_P0 d 114 31 L (i_msk [true, false] (i_ast 1 32) L st h) := go_eq gd_P0 d 114 31 L st h
theorem x114_32 (d : Nat) (L st : List Value) (h : gd_H) : go gd_P0 d 114 32 L st h = gs gd_P0 d 114 32 L (i_goto 5 L st h) := go_eq gd_P0 d 114 32 L st h
theorem x114_35 (d : Nat) (L st : List Value) (h : gd_H) : go gd_P0 d 114 35 L st h = gs gd_P0 d 114 35 L (i_ald 0 36 L st h) := go_eq gd_P0 d 114 35 L st h
theorem x114_36 (d : Nat) (L st : List Value) (h : gd_H) : go gd_P0 d 114 36 L st h = gs gd_P0 d 114 36 L (i_getR 12 1 39 L st h) := go_eq gd_P0 d 114 36 L st h
theorem x114_39 (d : Nat) (L st : List Value) (h : gd_H) : go gd_P0 d 114 39 L st h = gs gd_P0 d 114 39 L (i_psh (.int 45) 41 L st h) := go_eq gd_P0 d 114 39 L st h
theorem x114_41 (d : Nat) (L st : List Value) (h : gd_H) : go gd_P0 d 114 41 L st h = gs gd_P0 d 114 41 L (i_cV 109 1 10 44 L st h) := go_eq gd_P0 d 114 41 L st h
theorem x114_44 (d : Nat) (L st : List Value) (h : gd_H) : go gd_P0 d 114 44 L st h = gs gd_P0 d 114 44 L (i_msk [true, true] (i_ifeq 65 47) L st h) := go_eq gd_P0 d 114 44 L st h
theorem x114_47 (d : Nat) (L st : List Value) (h : gd_H) : go gd_P0 d 114 47 L st h = gs gd_P0 d 114 47 L (i_new 13 3 50 L st h) := go_eq gd_P0 d 114 47 L st h
theorem x114_50 (d : Nat) (L st : List Value) (h : gd_H) : go gd_P0 d 114 50 L st h = gs gd_P0 d 114 50 L (i_dup 51 L st h) := go_eq gd_P0 d 114 50 L st h
theorem x114_51 (d : Nat) (L st : List Value) (h : gd_H) : go gd_P0 d 114 51 L st h = gs gd_P0 d 114 51 L (i_psh (.int 45) 53 L st h) := go_eq gd_P0 d 114 51 L st h
theorem x114_53 (d : Nat) (L st : List Value) (h : gd_H) : go gd_P0 d 114 53 L st h = gs gd_P0 d 114 53 L (i_ald 1 54 L st h) := go_eq gd_P0 d 114 53 L st h
theorem x114_54 (d : Nat) (L st : List Value) (h : gd_H) : go gd_P0 d 114 54 L st h = gs gd_P0 d 114 54 L (i_ald 0 55 L st h) := go_eq gd_P0 d 114 54 L st h
theorem x114_55 (d : Nat) (L st : List Value) (h : gd_H) : go gd_P0 d 114 55 L st h = gs gd_P0 d 114 55 L (i_cV 115 0 12 58 L st h) := go_eq gd_P0 d 114 55 L st h
theorem x114_58 (d : Nat) (L st : List Value) (h : gd_H) : go gd_P0 d 114 58 L st h = gs gd_P0 d 114 58 L (i_msk [true, false] (i_cV 117 3 13 61) L st h) := go_eq gd_P0 d 114 58 L st h
theorem x114_61 (d : Nat) (L st : List Value) (h : gd_H) : go gd_P0 d 114 61 L st h = gs gd_P0 d 114 61 L (i_msk [true, false] (i_ast 1 62) L st h) := go_eq gd_P0 d 114 61 L st h
theorem x114_62 (d : Nat) (L st : List Value) (h : gd_H) : go gd_P0 d 114 62 L st h = gs gd_P0 d 114 62 L (i_goto 5 L st h) := go_eq gd_P0 d 114 62 L st h
theorem x114_65 (d : Nat) (L st : List Value) (h : gd_H) : go gd_P0 d 114 65 L st h = gs gd_P0 d 114 65 L (i_ald 1 66 L st h) := go_eq gd_P0 d 114 65 L st h
theorem x114_66 (d : Nat) (L st : List Value) (h : gd_H) : go gd_P0 d 114 66 L st h = gs gd_P0 d 114 66 L (i_aret L st h) := go_eq gd_P0 d 114 66 L st h
theorem s114_0 (d : Nat) (h : gd_H) (v0 : Nat) : go gd_P0 d 114 0 [.ref v0, .null] [] h =
    if gT h v0 = 12 then gc gd_P0 d 114 1 4 [.ref v0, .null] [] (run gd_P0 d 115 [.ref v0] h) else none :=
  (x114_0 ..).trans ((x114_1 ..).trans ((gs_if ..).trans ((ia9 (by simp)).trans (ic9 rfl rfl))))
theorem s114_4 (d : Nat) (h : gd_H) (v0 : Nat) (w1 : Value) (z0 : Nat) : go gd_P0 d 114 4 [.ref v0, w1] [.ref z0] h =
    go gd_P0 d 114 5 [.ref v0, .ref z0] [] h :=
  (x114_4 ..)
theorem s114_5 (d : Nat) (h : gd_H) (v0 : Nat) (v1 : Nat) : go gd_P0 d 114 5 [.ref v0, .ref v1] [] h =
    if gT h v0 = 12 then if gT h (gR h v0 1) = 10 then gc gd_P0 d 114 11 14 [.ref v0, .ref v1] [] (run gd_P0 d 109 [.ref (gR h v0 1), .int 43] h) else none else none :=
  (x114_5 ..).trans ((x114_6 ..).trans ((gs_if ..).trans (ic9 ((x114_9 ..).trans ((x114_11 ..).trans ((gs_if ..).trans ((ia9 (by simp)).trans (ic9 rfl rfl))))) rfl)))
theorem s114_14 (d : Nat) (h : gd_H) (v0 : Nat) (v1 : Nat) (z0 : Int32) : go gd_P0 d 114 14 [.ref v0, .ref v1] [.int z0] h =
    if z0 = 0 then if gT h v0 = 12 then if gT h (gR h v0 1) = 10 then gc gd_P0 d 114 41 44 [.ref v0, .ref v1] [] (run gd_P0 d 109 [.ref (gR h v0 1), .int 45] h) else none else none else if gT (nw h 13 0 3) v0 = 12 then gc gd_P0 d 114 25 28 [.ref v0, .ref v1] [.ref v1, .int 43, .ref (gS h), .ref (gS h)] (run gd_P0 d 115 [.ref v0] (nw h 13 0 3)) else none :=
  (x114_14 ..).trans ((gs_nif ..).trans (ic9 ((x114_35 ..).trans ((x114_36 ..).trans ((gs_if ..).trans (ic9 ((x114_39 ..).trans ((x114_41 ..).trans ((gs_if ..).trans ((ia9 (by simp)).trans (ic9 rfl rfl))))) rfl)))) ((x114_17 ..).trans ((x114_20 ..).trans ((x114_21 ..).trans ((x114_23 ..).trans ((x114_24 ..).trans ((x114_25 ..).trans ((gs_if ..).trans ((ia9 (by simp)).trans (ic9 rfl rfl)))))))))))
theorem s114_28 (d : Nat) (h : gd_H) (v0 : Nat) (w1 : Value) (z0 : Nat) (z1 : Nat) (z2 : Int32) (z3 : Nat) (z4 : Nat) : go gd_P0 d 114 28 [.ref v0, w1] [.ref z0, .ref z1, .int z2, .ref z3, .ref z4] h =
    if gT h z3 = 13 then gc gd_P0 d 114 28 31 [.ref v0, .null] [.ref z4] (run gd_P0 d 117 [.ref z3, .int z2, .ref z1, .ref z0] h) else none :=
  (x114_28 ..).trans ((gs_nif ..).trans ((ia9 (by simp)).trans (ic9 rfl rfl)))
theorem s114_31 (d : Nat) (h : gd_H) (v0 : Nat) (w1 : Value) (z0 : Nat) : go gd_P0 d 114 31 [.ref v0, w1] [.ref z0] h =
    go gd_P0 d 114 5 [.ref v0, .ref z0] [] h :=
  (x114_31 ..).trans ((x114_32 ..))
theorem s114_44 (d : Nat) (h : gd_H) (v0 : Nat) (v1 : Nat) (z0 : Int32) : go gd_P0 d 114 44 [.ref v0, .ref v1] [.int z0] h =
    if z0 = 0 then some (.inl (some (.ref v1)), h) else if gT (nw h 13 0 3) v0 = 12 then gc gd_P0 d 114 55 58 [.ref v0, .ref v1] [.ref v1, .int 45, .ref (gS h), .ref (gS h)] (run gd_P0 d 115 [.ref v0] (nw h 13 0 3)) else none :=
  (x114_44 ..).trans ((gs_nif ..).trans (ic9 ((x114_65 ..).trans ((x114_66 ..))) ((x114_47 ..).trans ((x114_50 ..).trans ((x114_51 ..).trans ((x114_53 ..).trans ((x114_54 ..).trans ((x114_55 ..).trans ((gs_if ..).trans ((ia9 (by simp)).trans (ic9 rfl rfl)))))))))))
theorem s114_58 (d : Nat) (h : gd_H) (v0 : Nat) (w1 : Value) (z0 : Nat) (z1 : Nat) (z2 : Int32) (z3 : Nat) (z4 : Nat) : go gd_P0 d 114 58 [.ref v0, w1] [.ref z0, .ref z1, .int z2, .ref z3, .ref z4] h =
    if gT h z3 = 13 then gc gd_P0 d 114 58 61 [.ref v0, .null] [.ref z4] (run gd_P0 d 117 [.ref z3, .int z2, .ref z1, .ref z0] h) else none :=
  (x114_58 ..).trans ((gs_nif ..).trans ((ia9 (by simp)).trans (ic9 rfl rfl)))
theorem s114_61 (d : Nat) (h : gd_H) (v0 : Nat) (w1 : Value) (z0 : Nat) : go gd_P0 d 114 61 [.ref v0, w1] [.ref z0] h =
    go gd_P0 d 114 5 [.ref v0, .ref z0] [] h :=
  (x114_61 ..).trans ((x114_62 ..))
theorem r114 (d : Nat) (h : gd_H) (v0 : Nat) : run gd_P0 (d + 1) 114 [.ref v0] h = go gd_P0 d 114 0 [.ref v0, .null] [] h := run_succ gd_P0 d 114 [.ref v0] h (Nat.le_of_ble_eq_true rfl)
theorem x115_0 (d : Nat) (L st : List Value) (h : gd_H) : go gd_P0 d 115 0 L st h = gs gd_P0 d 115 0 L (i_ald 0 1 L st h) := go_eq gd_P0 d 115 0 L st h
theorem x115_1 (d : Nat) (L st : List Value) (h : gd_H) : go gd_P0 d 115 1 L st h = gs gd_P0 d 115 1 L (i_cV 116 0 12 4 L st h) := go_eq gd_P0 d 115 1 L st h
theorem x115_4 (d : Nat) (L st : List Value) (h : gd_H) : go gd_P0 d 115 4 L st h = gs gd_P0 d 115 4 L (i_msk [true, false] (i_ast 1 5) L st h) := go_eq gd_P0 d 115 4 L st h
theorem x115_5 (d : Nat) (L st : List Value) (h : gd_H) : go gd_P0 d 115 5 L st h = gs gd_P0 d 115 5 L (i_msk [true, true] (i_ald 0 6) L st h) := go_eq gd_P0 d 115 5 L st h
theorem x115_6 (d : Nat) (L st : List Value) (h : gd_H) : go gd_P0 d 115 6 L st h = gs gd_P0 d 115 6 L (i_getR 12 1 9 L st h) := go_eq gd_P0 d 115 6 L st h
theorem x115_9 (d : Nat) (L st : List Value) (h : gd_H) : go gd_P0 d 115 9 L st h = gs gd_P0 d 115 9 L (i_psh (.int 42) 11 L st h) := go_eq gd_P0 d 115 9 L st h
theorem x115_11 (d : Nat) (L st : List Value) (h : gd_H) : go gd_P0 d 115 11 L st h = gs gd_P0 d 115 11 L (i_cV 109 1 10 14 L st h) := go_eq gd_P0 d 115 11 L st h
theorem x115_14 (d : Nat) (L st : List Value) (h : gd_H) : go gd_P0 d 115 14 L st h = gs gd_P0 d 115 14 L (i_msk [true, true] (i_ifeq 35 17) L st h) := go_eq gd_P0 d 115 14 L st h
theorem x115_17 (d : Nat) (L st : List Value) (h : gd_H) : go gd_P0 d 115 17 L st h = gs gd_P0 d 115 17 L (i_new 13 3 20 L st h) := go_eq gd_P0 d 115 17 L st h
theorem x115_20 (d : Nat) (L st : List Value) (h : gd_H) : go gd_P0 d 115 20 L st h = gs gd_P0 d 115 20 L (i_dup 21 L st h) := go_eq gd_P0 d 115 20 L st h
theorem x115_21 (d : Nat) (L st : List Value) (h : gd_H) : go gd_P0 d 115 21 L st h = gs gd_P0 d 115 21 L (i_psh (.int 42) 23 L st h) := go_eq gd_P0 d 115 21 L st h
theorem x115_23 (d : Nat) (L st : List Value) (h : gd_H) : go gd_P0 d 115 23 L st h = gs gd_P0 d 115 23 L (i_ald 1 24 L st h) := go_eq gd_P0 d 115 23 L st h
theorem x115_24 (d : Nat) (L st : List Value) (h : gd_H) : go gd_P0 d 115 24 L st h = gs gd_P0 d 115 24 L (i_ald 0 25 L st h) := go_eq gd_P0 d 115 24 L st h
theorem x115_25 (d : Nat) (L st : List Value) (h : gd_H) : go gd_P0 d 115 25 L st h = gs gd_P0 d 115 25 L (i_cV 116 0 12 28 L st h) := go_eq gd_P0 d 115 25 L st h
theorem x115_28 (d : Nat) (L st : List Value) (h : gd_H) : go gd_P0 d 115 28 L st h = gs gd_P0 d 115 28 L (i_msk [true, false] (i_cV 117 3 13 31) L st h) := go_eq gd_P0 d 115 28 L st h
theorem x115_31 (d : Nat) (L st : List Value) (h : gd_H) : go gd_P0 d 115 31 L st h = gs gd_P0 d 115 31 L (i_msk [true, false] (i_ast 1 32) L st h) := go_eq gd_P0 d 115 31 L st h
theorem x115_32 (d : Nat) (L st : List Value) (h : gd_H) : go gd_P0 d 115 32 L st h = gs gd_P0 d 115 32 L (i_goto 5 L st h) := go_eq gd_P0 d 115 32 L st h
theorem x115_35 (d : Nat) (L st : List Value) (h : gd_H) : go gd_P0 d 115 35 L st h = gs gd_P0 d 115 35 L (i_ald 0 36 L st h) := go_eq gd_P0 d 115 35 L st h
theorem x115_36 (d : Nat) (L st : List Value) (h : gd_H) : go gd_P0 d 115 36 L st h = gs gd_P0 d 115 36 L (i_getR 12 1 39 L st h) := go_eq gd_P0 d 115 36 L st h
theorem x115_39 (d : Nat) (L st : List Value) (h : gd_H) : go gd_P0 d 115 39 L st h = gs gd_P0 d 115 39 L (i_psh (.int 47) 41 L st h) := go_eq gd_P0 d 115 39 L st h
theorem x115_41 (d : Nat) (L st : List Value) (h : gd_H) : go gd_P0 d 115 41 L st h = gs gd_P0 d 115 41 L (i_cV 109 1 10 44 L st h) := go_eq gd_P0 d 115 41 L st h
theorem x115_44 (d : Nat) (L st : List Value) (h : gd_H) : go gd_P0 d 115 44 L st h = gs gd_P0 d 115 44 L (i_msk [true, true] (i_ifeq 65 47) L st h) := go_eq gd_P0 d 115 44 L st h
theorem x115_47 (d : Nat) (L st : List Value) (h : gd_H) : go gd_P0 d 115 47 L st h = gs gd_P0 d 115 47 L (i_new 13 3 50 L st h) := go_eq gd_P0 d 115 47 L st h
theorem x115_50 (d : Nat) (L st : List Value) (h : gd_H) : go gd_P0 d 115 50 L st h = gs gd_P0 d 115 50 L (i_dup 51 L st h) := go_eq gd_P0 d 115 50 L st h
theorem x115_51 (d : Nat) (L st : List Value) (h : gd_H) : go gd_P0 d 115 51 L st h = gs gd_P0 d 115 51 L (i_psh (.int 47) 53 L st h) := go_eq gd_P0 d 115 51 L st h
theorem x115_53 (d : Nat) (L st : List Value) (h : gd_H) : go gd_P0 d 115 53 L st h = gs gd_P0 d 115 53 L (i_ald 1 54 L st h) := go_eq gd_P0 d 115 53 L st h
theorem x115_54 (d : Nat) (L st : List Value) (h : gd_H) : go gd_P0 d 115 54 L st h = gs gd_P0 d 115 54 L (i_ald 0 55 L st h) := go_eq gd_P0 d 115 54 L st h
theorem x115_55 (d : Nat) (L st : List Value) (h : gd_H) : go gd_P0 d 115 55 L st h = gs gd_P0 d 115 55 L (i_cV 116 0 12 58 L st h) := go_eq gd_P0 d 115 55 L st h
theorem x115_58 (d : Nat) (L st : List Value) (h : gd_H) : go gd_P0 d 115 58 L st h = gs gd_P0 d 115 58 L (i_msk [true, false] (i_cV 117 3 13 61) L st h) := go_eq gd_P0 d 115 58 L st h
theorem x115_61 (d : Nat) (L st : List Value) (h : gd_H) : go gd_P0 d 115 61 L st h = gs gd_P0 d 115 61 L (i_msk [true, false] (i_ast 1 62) L st h) := go_eq gd_P0 d 115 61 L st h
theorem x115_62 (d : Nat) (L st : List Value) (h : gd_H) : go gd_P0 d 115 62 L st h = gs gd_P0 d 115 62 L (i_goto 5 L st h) := go_eq gd_P0 d 115 62 L st h
theorem x115_65 (d : Nat) (L st : List Value) (h : gd_H) : go gd_P0 d 115 65 L st h = gs gd_P0 d 115 65 L (i_ald 0 66 L st h) := go_eq gd_P0 d 115 65 L st h
theorem x115_66 (d : Nat) (L st : List Value) (h : gd_H) : go gd_P0 d 115 66 L st h = gs gd_P0 d 115 66 L (i_getR 12 1 69 L st h) := go_eq gd_P0 d 115 66 L st h
theorem x115_69 (d : Nat) (L st : List Value) (h : gd_H) : go gd_P0 d 115 69 L st h = gs gd_P0 d 115 69 L (i_psh (.int 37) 71 L st h) := go_eq gd_P0 d 115 69 L st h
theorem x115_71 (d : Nat) (L st : List Value) (h : gd_H) : go gd_P0 d 115 71 L st h = gs gd_P0 d 115 71 L (i_cV 109 1 10 74 L st h) := go_eq gd_P0 d 115 71 L st h
theorem x115_74 (d : Nat) (L st : List Value) (h : gd_H) : go gd_P0 d 115 74 L st h = gs gd_P0 d 115 74 L (i_msk [true, true] (i_ifeq 95 77) L st h) := go_eq gd_P0 d 115 74 L st h
theorem x115_77 (d : Nat) (L st : List Value) (h : gd_H) : go gd_P0 d 115 77 L st h = gs gd_P0 d 115 77 L (i_new 13 3 80 L st h) := go_eq gd_P0 d 115 77 L st h
theorem x115_80 (d : Nat) (L st : List Value) (h : gd_H) : go gd_P0 d 115 80 L st h = gs gd_P0 d 115 80 L (i_dup 81 L st h) := go_eq gd_P0 d 115 80 L st h
theorem x115_81 (d : Nat) (L st : List Value) (h : gd_H) : go gd_P0 d 115 81 L st h = gs gd_P0 d 115 81 L (i_psh (.int 37) 83 L st h) := go_eq gd_P0 d 115 81 L st h
theorem x115_83 (d : Nat) (L st : List Value) (h : gd_H) : go gd_P0 d 115 83 L st h = gs gd_P0 d 115 83 L (i_ald 1 84 L st h) := go_eq gd_P0 d 115 83 L st h
theorem x115_84 (d : Nat) (L st : List Value) (h : gd_H) : go gd_P0 d 115 84 L st h = gs gd_P0 d 115 84 L (i_ald 0 85 L st h) := go_eq gd_P0 d 115 84 L st h
theorem x115_85 (d : Nat) (L st : List Value) (h : gd_H) : go gd_P0 d 115 85 L st h = gs gd_P0 d 115 85 L (i_cV 116 0 12 88 L st h) := go_eq gd_P0 d 115 85 L st h
theorem x115_88 (d : Nat) (L st : List Value) (h : gd_H) : go gd_P0 d 115 88 L st h = gs gd_P0 d 115 88 L (i_msk [true, false] (i_cV 117 3 13 91) L st h) := go_eq gd_P0 d 115 88 L st h
theorem x115_91 (d : Nat) (L st : List Value) (h : gd_H) : go gd_P0 d 115 91 L st h = gs gd_P0 d 115 91 L (i_msk [true, false] (i_ast 1 92) L st h) := go_eq gd_P0 d 115 91 L st h
theorem x115_92 (d : Nat) (L st : List Value) (h : gd_H) : go gd_P0 d 115 92 L st h = gs gd_P0 d 115 92 L (i_goto 5 L st h) := go_eq gd_P0 d 115 92 L st h
theorem x115_95 (d : Nat) (L st : List Value) (h : gd_H) : go gd_P0 d 115 95 L st h = gs gd_P0 d 115 95 L (i_ald 1 96 L st h) := go_eq gd_P0 d 115 95 L st h
theorem x115_96 (d : Nat) (L st : List Value) (h : gd_H) : go gd_P0 d 115 96 L st h = gs gd_P0 d 115 96 L (i_aret L st h) := go_eq gd_P0 d 115 96 L st h
theorem s115_0 (d : Nat) (h : gd_H) (v0 : Nat) : go gd_P0 d 115 0 [.ref v0, .null] [] h =
    if gT h v0 = 12 then gc gd_P0 d 115 1 4 [.ref v0, .null] [] (run gd_P0 d 116 [.ref v0] h) else none :=
  (x115_0 ..).trans ((x115_1 ..).trans ((gs_if ..).trans ((ia9 (by simp)).trans (ic9 rfl rfl))))
theorem s115_4 (d : Nat) (h : gd_H) (v0 : Nat) (w1 : Value) (z0 : Nat) : go gd_P0 d 115 4 [.ref v0, w1] [.ref z0] h =
    go gd_P0 d 115 5 [.ref v0, .ref z0] [] h :=
  (x115_4 ..)
theorem s115_5 (d : Nat) (h : gd_H) (v0 : Nat) (v1 : Nat) : go gd_P0 d 115 5 [.ref v0, .ref v1] [] h =
    if gT h v0 = 12 then if gT h (gR h v0 1) = 10 then gc gd_P0 d 115 11 14 [.ref v0, .ref v1] [] (run gd_P0 d 109 [.ref (gR h v0 1), .int 42] h) else none else none :=
  (x115_5 ..).trans ((x115_6 ..).trans ((gs_if ..).trans (ic9 ((x115_9 ..).trans ((x115_11 ..).trans ((gs_if ..).trans ((ia9 (by simp)).trans (ic9 rfl rfl))))) rfl)))
theorem s115_14 (d : Nat) (h : gd_H) (v0 : Nat) (v1 : Nat) (z0 : Int32) : go gd_P0 d 115 14 [.ref v0, .ref v1] [.int z0] h =
    if z0 = 0 then if gT h v0 = 12 then if gT h (gR h v0 1) = 10 then gc gd_P0 d 115 41 44 [.ref v0, .ref v1] [] (run gd_P0 d 109 [.ref (gR h v0 1), .int 47] h) else none else none else go gd_P0 d 115 20 [.ref v0, .ref v1] [.ref (gS h)] (nw h 13 0 3) :=
  (x115_14 ..).trans ((gs_nif ..).trans (ic9 ((x115_35 ..).trans ((x115_36 ..).trans ((gs_if ..).trans (ic9 ((x115_39 ..).trans ((x115_41 ..).trans ((gs_if ..).trans ((ia9 (by simp)).trans (ic9 rfl rfl))))) rfl)))) ((x115_17 ..))))
theorem s115_20 (d : Nat) (h : gd_H) (v0 : Nat) (v1 : Nat) (z0 : Nat) : go gd_P0 d 115 20 [.ref v0, .ref v1] [.ref z0] h =
    if gT h v0 = 12 then gc gd_P0 d 115 25 28 [.ref v0, .ref v1] [.ref v1, .int 42, .ref z0, .ref z0] (run gd_P0 d 116 [.ref v0] h) else none :=
  (x115_20 ..).trans ((x115_21 ..).trans ((x115_23 ..).trans ((x115_24 ..).trans ((x115_25 ..).trans ((gs_if ..).trans ((ia9 (by simp)).trans (ic9 rfl rfl)))))))
theorem s115_28 (d : Nat) (h : gd_H) (v0 : Nat) (w1 : Value) (z0 : Nat) (z1 : Nat) (z2 : Int32) (z3 : Nat) (z4 : Nat) : go gd_P0 d 115 28 [.ref v0, w1] [.ref z0, .ref z1, .int z2, .ref z3, .ref z4] h =
    if gT h z3 = 13 then gc gd_P0 d 115 28 31 [.ref v0, .null] [.ref z4] (run gd_P0 d 117 [.ref z3, .int z2, .ref z1, .ref z0] h) else none :=
  (x115_28 ..).trans ((gs_nif ..).trans ((ia9 (by simp)).trans (ic9 rfl rfl)))
theorem s115_31 (d : Nat) (h : gd_H) (v0 : Nat) (w1 : Value) (z0 : Nat) : go gd_P0 d 115 31 [.ref v0, w1] [.ref z0] h =
    go gd_P0 d 115 5 [.ref v0, .ref z0] [] h :=
  (x115_31 ..).trans ((x115_32 ..))
theorem s115_44 (d : Nat) (h : gd_H) (v0 : Nat) (v1 : Nat) (z0 : Int32) : go gd_P0 d 115 44 [.ref v0, .ref v1] [.int z0] h =
    if z0 = 0 then if gT h v0 = 12 then if gT h (gR h v0 1) = 10 then gc gd_P0 d 115 71 74 [.ref v0, .ref v1] [] (run gd_P0 d 109 [.ref (gR h v0 1), .int 37] h) else none else none else go gd_P0 d 115 50 [.ref v0, .ref v1] [.ref (gS h)] (nw h 13 0 3) :=
  (x115_44 ..).trans ((gs_nif ..).trans (ic9 ((x115_65 ..).trans ((x115_66 ..).trans ((gs_if ..).trans (ic9 ((x115_69 ..).trans ((x115_71 ..).trans ((gs_if ..).trans ((ia9 (by simp)).trans (ic9 rfl rfl))))) rfl)))) ((x115_47 ..))))
theorem s115_50 (d : Nat) (h : gd_H) (v0 : Nat) (v1 : Nat) (z0 : Nat) : go gd_P0 d 115 50 [.ref v0, .ref v1] [.ref z0] h =
    if gT h v0 = 12 then gc gd_P0 d 115 55 58 [.ref v0, .ref v1] [.ref v1, .int 47, .ref z0, .ref z0] (run gd_P0 d 116 [.ref v0] h) else none :=
  (x115_50 ..).trans ((x115_51 ..).trans ((x115_53 ..).trans ((x115_54 ..).trans ((x115_55 ..).trans ((gs_if ..).trans ((ia9 (by simp)).trans (ic9 rfl rfl)))))))
theorem s115_58 (d : Nat) (h : gd_H) (v0 : Nat) (w1 : Value) (z0 : Nat) (z1 : Nat) (z2 : Int32) (z3 : Nat) (z4 : Nat) : go gd_P0 d 115 58 [.ref v0, w1] [.ref z0, .ref z1, .int z2, .ref z3, .ref z4] h =
    if gT h z3 = 13 then gc gd_P0 d 115 58 61 [.ref v0, .null] [.ref z4] (run gd_P0 d 117 [.ref z3, .int z2, .ref z1, .ref z0] h) else none :=
  (x115_58 ..).trans ((gs_nif ..).trans ((ia9 (by simp)).trans (ic9 rfl rfl)))
theorem s115_61 (d : Nat) (h : gd_H) (v0 : Nat) (w1 : Value) (z0 : Nat) : go gd_P0 d 115 61 [.ref v0, w1] [.ref z0] h =
    go gd_P0 d 115 5 [.ref v0, .ref z0] [] h :=
  (x115_61 ..).trans ((x115_62 ..))
theorem s115_74 (d : Nat) (h : gd_H) (v0 : Nat) (v1 : Nat) (z0 : Int32) : go gd_P0 d 115 74 [.ref v0, .ref v1] [.int z0] h =
    if z0 = 0 then some (.inl (some (.ref v1)), h) else go gd_P0 d 115 80 [.ref v0, .ref v1] [.ref (gS h)] (nw h 13 0 3) :=
  (x115_74 ..).trans ((gs_nif ..).trans (ic9 ((x115_95 ..).trans ((x115_96 ..))) ((x115_77 ..))))
theorem s115_80 (d : Nat) (h : gd_H) (v0 : Nat) (v1 : Nat) (z0 : Nat) : go gd_P0 d 115 80 [.ref v0, .ref v1] [.ref z0] h =
    if gT h v0 = 12 then gc gd_P0 d 115 85 88 [.ref v0, .ref v1] [.ref v1, .int 37, .ref z0, .ref z0] (run gd_P0 d 116 [.ref v0] h) else none :=
  (x115_80 ..).trans ((x115_81 ..).trans ((x115_83 ..).trans ((x115_84 ..).trans ((x115_85 ..).trans ((gs_if ..).trans ((ia9 (by simp)).trans (ic9 rfl rfl)))))))
theorem s115_88 (d : Nat) (h : gd_H) (v0 : Nat) (w1 : Value) (z0 : Nat) (z1 : Nat) (z2 : Int32) (z3 : Nat) (z4 : Nat) : go gd_P0 d 115 88 [.ref v0, w1] [.ref z0, .ref z1, .int z2, .ref z3, .ref z4] h =
    if gT h z3 = 13 then gc gd_P0 d 115 88 91 [.ref v0, .null] [.ref z4] (run gd_P0 d 117 [.ref z3, .int z2, .ref z1, .ref z0] h) else none :=
  (x115_88 ..).trans ((gs_nif ..).trans ((ia9 (by simp)).trans (ic9 rfl rfl)))
theorem s115_91 (d : Nat) (h : gd_H) (v0 : Nat) (w1 : Value) (z0 : Nat) : go gd_P0 d 115 91 [.ref v0, w1] [.ref z0] h =
    go gd_P0 d 115 5 [.ref v0, .ref z0] [] h :=
  (x115_91 ..).trans ((x115_92 ..))
theorem r115 (d : Nat) (h : gd_H) (v0 : Nat) : run gd_P0 (d + 1) 115 [.ref v0] h = go gd_P0 d 115 0 [.ref v0, .null] [] h := run_succ gd_P0 d 115 [.ref v0] h (Nat.le_of_ble_eq_true rfl)
theorem x116_0 (d : Nat) (L st : List Value) (h : gd_H) : go gd_P0 d 116 0 L st h = gs gd_P0 d 116 0 L (i_ald 0 1 L st h) := go_eq gd_P0 d 116 0 L st h
theorem x116_1 (d : Nat) (L st : List Value) (h : gd_H) : go gd_P0 d 116 1 L st h = gs gd_P0 d 116 1 L (i_getR 12 1 4 L st h) := go_eq gd_P0 d 116 1 L st h
theorem x116_4 (d : Nat) (L st : List Value) (h : gd_H) : go gd_P0 d 116 4 L st h = gs gd_P0 d 116 4 L (i_psh (.ref 32) 6 L st h) := go_eq gd_P0 d 116 4 L st h
theorem x116_6 (d : Nat) (L st : List Value) (h : gd_H) : go gd_P0 d 116 6 L st h = gs gd_P0 d 116 6 L (i_cV 101 1 10 9 L st h) := go_eq gd_P0 d 116 6 L st h
theorem x116_9 (d : Nat) (L st : List Value) (h : gd_H) : go gd_P0 d 116 9 L st h = gs gd_P0 d 116 9 L (i_msk [true, false, false, false] (i_ist 1 10) L st h) := go_eq gd_P0 d 116 9 L st h
theorem x116_10 (d : Nat) (L st : List Value) (h : gd_H) : go gd_P0 d 116 10 L st h = gs gd_P0 d 116 10 L (i_ild 1 11 L st h) := go_eq gd_P0 d 116 10 L st h
theorem x116_11 (d : Nat) (L st : List Value) (h : gd_H) : go gd_P0 d 116 11 L st h = gs gd_P0 d 116 11 L (i_ifne 26 14 L st h) := go_eq gd_P0 d 116 11 L st h
theorem x116_14 (d : Nat) (L st : List Value) (h : gd_H) : go gd_P0 d 116 14 L st h = gs gd_P0 d 116 14 L (i_ald 0 15 L st h) := go_eq gd_P0 d 116 14 L st h
theorem x116_15 (d : Nat) (L st : List Value) (h : gd_H) : go gd_P0 d 116 15 L st h = gs gd_P0 d 116 15 L (i_getR 12 1 18 L st h) := go_eq gd_P0 d 116 15 L st h
theorem x116_18 (d : Nat) (L st : List Value) (h : gd_H) : go gd_P0 d 116 18 L st h = gs gd_P0 d 116 18 L (i_psh (.ref 34) 20 L st h) := go_eq gd_P0 d 116 18 L st h
theorem x116_20 (d : Nat) (L st : List Value) (h : gd_H) : go gd_P0 d 116 20 L st h = gs gd_P0 d 116 20 L (i_cV 101 1 10 23 L st h) := go_eq gd_P0 d 116 20 L st h
theorem x116_23 (d : Nat) (L st : List Value) (h : gd_H) : go gd_P0 d 116 23 L st h = gs gd_P0 d 116 23 L (i_msk [true, true, false, false] (i_ifeq 105 26) L st h) := go_eq gd_P0 d 116 23 L st h
theorem x116_26 (d : Nat) (L st : List Value) (h : gd_H) : go gd_P0 d 116 26 L st h = gs gd_P0 d 116 26 L (i_msk [true, true, false, false] (i_ald 0 27) L st h) := go_eq gd_P0 d 116 26 L st h
theorem x116_27 (d : Nat) (L st : List Value) (h : gd_H) : go gd_P0 d 116 27 L st h = gs gd_P0 d 116 27 L (i_getR 12 1 30 L st h) := go_eq gd_P0 d 116 27 L st h
theorem x116_30 (d : Nat) (L st : List Value) (h : gd_H) : go gd_P0 d 116 30 L st h = gs gd_P0 d 116 30 L (i_cV 107 0 10 33 L st h) := go_eq gd_P0 d 116 30 L st h
theorem x116_33 (d : Nat) (L st : List Value) (h : gd_H) : go gd_P0 d 116 33 L st h = gs gd_P0 d 116 33 L (i_msk [true, true, false, false] (i_ald 0 34) L st h) := go_eq gd_P0 d 116 33 L st h
theorem x116_34 (d : Nat) (L st : List Value) (h : gd_H) : go gd_P0 d 116 34 L st h = gs gd_P0 d 116 34 L (i_getR 12 1 37 L st h) := go_eq gd_P0 d 116 34 L st h
theorem x116_37 (d : Nat) (L st : List Value) (h : gd_H) : go gd_P0 d 116 37 L st h = gs gd_P0 d 116 37 L (i_cV 103 0 10 40 L st h) := go_eq gd_P0 d 116 37 L st h
theorem x116_40 (d : Nat) (L st : List Value) (h : gd_H) : go gd_P0 d 116 40 L st h = gs gd_P0 d 116 40 L (i_msk [true, true, false, false] (i_ald 0 41) L st h) := go_eq gd_P0 d 116 40 L st h
theorem x116_41 (d : Nat) (L st : List Value) (h : gd_H) : go gd_P0 d 116 41 L st h = gs gd_P0 d 116 41 L (i_getR 12 1 44 L st h) := go_eq gd_P0 d 116 41 L st h
theorem x116_44 (d : Nat) (L st : List Value) (h : gd_H) : go gd_P0 d 116 44 L st h = gs gd_P0 d 116 44 L (i_psh (.int 91) 46 L st h) := go_eq gd_P0 d 116 44 L st h
theorem x116_46 (d : Nat) (L st : List Value) (h : gd_H) : go gd_P0 d 116 46 L st h = gs gd_P0 d 116 46 L (i_cV 106 1 10 49 L st h) := go_eq gd_P0 d 116 46 L st h
theorem x116_49 (d : Nat) (L st : List Value) (h : gd_H) : go gd_P0 d 116 49 L st h = gs gd_P0 d 116 49 L (i_msk [true, true, false, false] (i_ald 0 50) L st h) := go_eq gd_P0 d 116 49 L st h
theorem x116_50 (d : Nat) (L st : List Value) (h : gd_H) : go gd_P0 d 116 50 L st h = gs gd_P0 d 116 50 L (i_cV 114 0 12 53 L st h) := go_eq gd_P0 d 116 50 L st h
theorem x116_53 (d : Nat) (L st : List Value) (h : gd_H) : go gd_P0 d 116 53 L st h = gs gd_P0 d 116 53 L (i_msk [true, true, false, false] (i_ast 2 54) L st h) := go_eq gd_P0 d 116 53 L st h
theorem x116_54 (d : Nat) (L st : List Value) (h : gd_H) : go gd_P0 d 116 54 L st h = gs gd_P0 d 116 54 L (i_ald 0 55 L st h) := go_eq gd_P0 d 116 54 L st h
theorem x116_55 (d : Nat) (L st : List Value) (h : gd_H) : go gd_P0 d 116 55 L st h = gs gd_P0 d 116 55 L (i_getR 12 1 58 L st h) := go_eq gd_P0 d 116 55 L st h
theorem x116_58 (d : Nat) (L st : List Value) (h : gd_H) : go gd_P0 d 116 58 L st h = gs gd_P0 d 116 58 L (i_psh (.int 44) 60 L st h) := go_eq gd_P0 d 116 58 L st h
theorem x116_60 (d : Nat) (L st : List Value) (h : gd_H) : go gd_P0 d 116 60 L st h = gs gd_P0 d 116 60 L (i_cV 106 1 10 63 L st h) := go_eq gd_P0 d 116 60 L st h
theorem x116_63 (d : Nat) (L st : List Value) (h : gd_H) : go gd_P0 d 116 63 L st h = gs gd_P0 d 116 63 L (i_msk [true, true, true, false] (i_ald 0 64) L st h) := go_eq gd_P0 d 116 63 L st h
theorem x116_64 (d : Nat) (L st : List Value) (h : gd_H) : go gd_P0 d 116 64 L st h = gs gd_P0 d 116 64 L (i_cV 114 0 12 67 L st h) := go_eq gd_P0 d 116 64 L st h
theorem x116_67 (d : Nat) (L st : List Value) (h : gd_H) : go gd_P0 d 116 67 L st h = gs gd_P0 d 116 67 L (i_msk [true, true, true, false] (i_ast 3 68) L st h) := go_eq gd_P0 d 116 67 L st h
theorem x116_68 (d : Nat) (L st : List Value) (h : gd_H) : go gd_P0 d 116 68 L st h = gs gd_P0 d 116 68 L (i_ald 0 69 L st h) := go_eq gd_P0 d 116 68 L st h
theorem x116_69 (d : Nat) (L st : List Value) (h : gd_H) : go gd_P0 d 116 69 L st h = gs gd_P0 d 116 69 L (i_getR 12 1 72 L st h) := go_eq gd_P0 d 116 69 L st h
theorem x116_72 (d : Nat) (L st : List Value) (h : gd_H) : go gd_P0 d 116 72 L st h = gs gd_P0 d 116 72 L (i_psh (.int 93) 74 L st h) := go_eq gd_P0 d 116 72 L st h
theorem x116_74 (d : Nat) (L st : List Value) (h : gd_H) : go gd_P0 d 116 74 L st h = gs gd_P0 d 116 74 L (i_cV 106 1 10 77 L st h) := go_eq gd_P0 d 116 74 L st h
theorem x116_77 (d : Nat) (L st : List Value) (h : gd_H) : go gd_P0 d 116 77 L st h = gs gd_P0 d 116 77 L (i_msk [true, true, true, true] (i_ald 0 78) L st h) := go_eq gd_P0 d 116 77 L st h
theorem x116_78 (d : Nat) (L st : List Value) (h : gd_H) : go gd_P0 d 116 78 L st h = gs gd_P0 d 116 78 L (i_getR 12 1 81 L st h) := go_eq gd_P0 d 116 78 L st h
theorem x116_81 (d : Nat) (L st : List Value) (h : gd_H) : go gd_P0 d 116 81 L st h = gs gd_P0 d 116 81 L (i_cV 108 0 10 84 L st h) := go_eq gd_P0 d 116 81 L st h
theorem x116_84 (d : Nat) (L st : List Value) (h : gd_H) : go gd_P0 d 116 84 L st h = gs gd_P0 d 116 84 L (i_msk [false, true, true, true] (i_new 13 3 87) L st h) := go_eq gd_P0 d 116 84 L st h
theorem x116_87 (d : Nat) (L st : List Value) (h : gd_H) : go gd_P0 d 116 87 L st h = gs gd_P0 d 116 87 L (i_dup 88 L st h) := go_eq gd_P0 d 116 87 L st h
theorem x116_88 (d : Nat) (L st : List Value) (h : gd_H) : go gd_P0 d 116 88 L st h = gs gd_P0 d 116 88 L (i_ild 1 89 L st h) := go_eq gd_P0 d 116 88 L st h
theorem x116_89 (d : Nat) (L st : List Value) (h : gd_H) : go gd_P0 d 116 89 L st h = gs gd_P0 d 116 89 L (i_ifeq 97 92 L st h) := go_eq gd_P0 d 116 89 L st h
theorem x116_92 (d : Nat) (L st : List Value) (h : gd_H) : go gd_P0 d 116 92 L st h = gs gd_P0 d 116 92 L (i_psh (.int 91) 94 L st h) := go_eq gd_P0 d 116 92 L st h
theorem x116_94 (d : Nat) (L st : List Value) (h : gd_H) : go gd_P0 d 116 94 L st h = gs gd_P0 d 116 94 L (i_goto 99 L st h) := go_eq gd_P0 d 116 94 L st h
theorem x116_97 (d : Nat) (L st : List Value) (h : gd_H) : go gd_P0 d 116 97 L st h = gs gd_P0 d 116 97 L (i_psh (.int 93) 99 L st h) := go_eq gd_P0 d 116 97 L st h
theorem x116_99 (d : Nat) (L st : List Value) (h : gd_H) : go gd_P0 d 116 99 L st h = gs gd_P0 d 116 99 L (i_msk [false, false, true, true] (i_ald 2 100) L st h) := go_eq gd_P0 d 116 99 L st h
theorem x116_100 (d : Nat) (L st : List Value) (h : gd_H) : go gd_P0 d 116 100 L st h = gs gd_P0 d 116 100 L (i_ald 3 101 L st h) := go_eq gd_P0 d 116 100 L st h
theorem x116_101 (d : Nat) (L st : List Value) (h : gd_H) : go gd_P0 d 116 101 L st h = gs gd_P0 d 116 101 L (i_cV 117 3 13 104 L st h) := go_eq gd_P0 d 116 101 L st h
theorem x116_104 (d : Nat) (L st : List Value) (h : gd_H) : go gd_P0 d 116 104 L st h = gs gd_P0 d 116 104 L (i_msk [false, false, false, false] (i_aret) L st h) := go_eq gd_P0 d 116 104 L st h
theorem x116_105 (d : Nat) (L st : List Value) (h : gd_H) : go gd_P0 d 116 105 L st h = gs gd_P0 d 116 105 L (i_ald 0 106 L st h) := go_eq gd_P0 d 116 105 L st h
theorem x116_106 (d : Nat) (L st : List Value) (h : gd_H) : go gd_P0 d 116 106 L st h = gs gd_P0 d 116 106 L (i_getR 12 1 109 L st h) := go_eq gd_P0 d 116 106 L st h
theorem x116_109 (d : Nat) (L st : List Value) (h : gd_H) : go gd_P0 d 116 109 L st h = gs gd_P0 d 116 109 L (i_cV 97 0 10 112 L st h) := go_eq gd_P0 d 116 109 L st h
theorem x116_112 (d : Nat) (L st : List Value) (h : gd_H) : go gd_P0 d 116 112 L st h = gs gd_P0 d 116 112 L (i_msk [true, false, false, false] (i_psh (.int 40) 114) L st h) := go_eq gd_P0 d 116 112 L st h
theorem x116_114 (d : Nat) (L st : List Value) (h : gd_H) : go gd_P0 d 116 114 L st h = gs gd_P0 d 116 114 L (i_icne 156 117 L st h) := go_eq gd_P0 d 116 114 L st h
theorem x116_117 (d : Nat) (L st : List Value) (h : gd_H) : go gd_P0 d 116 117 L st h = gs gd_P0 d 116 117 L (i_ald 0 118 L st h) := go_eq gd_P0 d 116 117 L st h
theorem x116_118 (d : Nat) (L st : List Value) (h : gd_H) : go gd_P0 d 116 118 L st h = gs gd_P0 d 116 118 L (i_getR 12 1 121 L st h) := go_eq gd_P0 d 116 118 L st h
theorem x116_121 (d : Nat) (L st : List Value) (h : gd_H) : go gd_P0 d 116 121 L st h = gs gd_P0 d 116 121 L (i_cV 107 0 10 124 L st h) := go_eq gd_P0 d 116 121 L st h
theorem x116_124 (d : Nat) (L st : List Value) (h : gd_H) : go gd_P0 d 116 124 L st h = gs gd_P0 d 116 124 L (i_msk [true, false, false, false] (i_ald 0 125) L st h) := go_eq gd_P0 d 116 124 L st h
theorem x116_125 (d : Nat) (L st : List Value) (h : gd_H) : go gd_P0 d 116 125 L st h = gs gd_P0 d 116 125 L (i_getR 12 1 128 L st h) := go_eq gd_P0 d 116 125 L st h
theorem x116_128 (d : Nat) (L st : List Value) (h : gd_H) : go gd_P0 d 116 128 L st h = gs gd_P0 d 116 128 L (i_psh (.int 40) 130 L st h) := go_eq gd_P0 d 116 128 L st h
theorem x116_130 (d : Nat) (L st : List Value) (h : gd_H) : go gd_P0 d 116 130 L st h = gs gd_P0 d 116 130 L (i_cV 106 1 10 133 L st h) := go_eq gd_P0 d 116 130 L st h
theorem x116_133 (d : Nat) (L st : List Value) (h : gd_H) : go gd_P0 d 116 133 L st h = gs gd_P0 d 116 133 L (i_msk [true, false, false, false] (i_ald 0 134) L st h) := go_eq gd_P0 d 116 133 L st h
theorem x116_134 (d : Nat) (L st : List Value) (h : gd_H) : go gd_P0 d 116 134 L st h = gs gd_P0 d 116 134 L (i_cV 114 0 12 137 L st h) := go_eq gd_P0 d 116 134 L st h
theorem x116_137 (d : Nat) (L st : List Value) (h : gd_H) : go gd_P0 d 116 137 L st h = gs gd_P0 d 116 137 L (i_msk [true, false, false, false] (i_ast 2 138) L st h) := go_eq gd_P0 d 116 137 L st h
theorem x116_138 (d : Nat) (L st : List Value) (h : gd_H) : go gd_P0 d 116 138 L st h = gs gd_P0 d 116 138 L (i_ald 0 139 L st h) := go_eq gd_P0 d 116 138 L st h
theorem x116_139 (d : Nat) (L st : List Value) (h : gd_H) : go gd_P0 d 116 139 L st h = gs gd_P0 d 116 139 L (i_getR 12 1 142 L st h) := go_eq gd_P0 d 116 139 L st h
theorem x116_142 (d : Nat) (L st : List Value) (h : gd_H) : go gd_P0 d 116 142 L st h = gs gd_P0 d 116 142 L (i_psh (.int 41) 144 L st h) := go_eq gd_P0 d 116 142 L st h
theorem x116_144 (d : Nat) (L st : List Value) (h : gd_H) : go gd_P0 d 116 144 L st h = gs gd_P0 d 116 144 L (i_cV 106 1 10 147 L st h) := go_eq gd_P0 d 116 144 L st h
theorem x116_147 (d : Nat) (L st : List Value) (h : gd_H) : go gd_P0 d 116 147 L st h = gs gd_P0 d 116 147 L (i_msk [true, false, true, false] (i_ald 0 148) L st h) := go_eq gd_P0 d 116 147 L st h
theorem x116_148 (d : Nat) (L st : List Value) (h : gd_H) : go gd_P0 d 116 148 L st h = gs gd_P0 d 116 148 L (i_getR 12 1 151 L st h) := go_eq gd_P0 d 116 148 L st h
theorem x116_151 (d : Nat) (L st : List Value) (h : gd_H) : go gd_P0 d 116 151 L st h = gs gd_P0 d 116 151 L (i_cV 108 0 10 154 L st h) := go_eq gd_P0 d 116 151 L st h
theorem x116_154 (d : Nat) (L st : List Value) (h : gd_H) : go gd_P0 d 116 154 L st h = gs gd_P0 d 116 154 L (i_msk [false, false, true, false] (i_ald 2 155) L st h) := go_eq gd_P0 d 116 154 L st h
theorem x116_155 (d : Nat) (L st : List Value) (h : gd_H) : go gd_P0 d 116 155 L st h = gs gd_P0 d 116 155 L (i_aret L st h) := go_eq gd_P0 d 116 155 L st h
theorem x116_156 (d : Nat) (L st : List Value) (h : gd_H) : go gd_P0 d 116 156 L st h = gs gd_P0 d 116 156 L (i_ald 0 157 L st h) := go_eq gd_P0 d 116 156 L st h
theorem x116_157 (d : Nat) (L st : List Value) (h : gd_H) : go gd_P0 d 116 157 L st h = gs gd_P0 d 116 157 L (i_getR 12 1 160 L st h) := go_eq gd_P0 d 116 157 L st h
theorem x116_160 (d : Nat) (L st : List Value) (h : gd_H) : go gd_P0 d 116 160 L st h = gs gd_P0 d 116 160 L (i_ald 0 161 L st h) := go_eq gd_P0 d 116 160 L st h
theorem x116_161 (d : Nat) (L st : List Value) (h : gd_H) : go gd_P0 d 116 161 L st h = gs gd_P0 d 116 161 L (i_getR 12 0 164 L st h) := go_eq gd_P0 d 116 161 L st h
theorem x116_164 (d : Nat) (L st : List Value) (h : gd_H) : go gd_P0 d 116 164 L st h = gs gd_P0 d 116 164 L (i_cV 100 1 10 167 L st h) := go_eq gd_P0 d 116 164 L st h
theorem x116_167 (d : Nat) (L st : List Value) (h : gd_H) : go gd_P0 d 116 167 L st h = gs gd_P0 d 116 167 L (i_msk [true, false, false, false] (i_ist 2 168) L st h) := go_eq gd_P0 d 116 167 L st h
theorem x116_168 (d : Nat) (L st : List Value) (h : gd_H) : go gd_P0 d 116 168 L st h = gs gd_P0 d 116 168 L (i_ild 2 169 L st h) := go_eq gd_P0 d 116 168 L st h
theorem x116_169 (d : Nat) (L st : List Value) (h : gd_H) : go gd_P0 d 116 169 L st h = gs gd_P0 d 116 169 L (i_psh (.int (-1)) 170 L st h) := go_eq gd_P0 d 116 169 L st h
theorem x116_170 (d : Nat) (L st : List Value) (h : gd_H) : go gd_P0 d 116 170 L st h = gs gd_P0 d 116 170 L (i_icne 192 173 L st h) := go_eq gd_P0 d 116 170 L st h
theorem x116_173 (d : Nat) (L st : List Value) (h : gd_H) : go gd_P0 d 116 173 L st h = gs gd_P0 d 116 173 L (i_new 14 1 176 L st h) := go_eq gd_P0 d 116 173 L st h
theorem x116_176 (d : Nat) (L st : List Value) (h : gd_H) : go gd_P0 d 116 176 L st h = gs gd_P0 d 116 176 L (i_dup 177 L st h) := go_eq gd_P0 d 116 176 L st h
theorem x116_177 (d : Nat) (L st : List Value) (h : gd_H) : go gd_P0 d 116 177 L st h = gs gd_P0 d 116 177 L (i_ald 0 178 L st h) := go_eq gd_P0 d 116 177 L st h
theorem x116_178 (d : Nat) (L st : List Value) (h : gd_H) : go gd_P0 d 116 178 L st h = gs gd_P0 d 116 178 L (i_getR 12 1 181 L st h) := go_eq gd_P0 d 116 178 L st h
theorem x116_181 (d : Nat) (L st : List Value) (h : gd_H) : go gd_P0 d 116 181 L st h = gs gd_P0 d 116 181 L (i_psh (.int 0) 182 L st h) := go_eq gd_P0 d 116 181 L st h
theorem x116_182 (d : Nat) (L st : List Value) (h : gd_H) : go gd_P0 d 116 182 L st h = gs gd_P0 d 116 182 L (i_psh (.int 999) 185 L st h) := go_eq gd_P0 d 116 182 L st h
theorem x116_185 (d : Nat) (L st : List Value) (h : gd_H) : go gd_P0 d 116 185 L st h = gs gd_P0 d 116 185 L (i_cV 104 2 10 188 L st h) := go_eq gd_P0 d 116 185 L st h
theorem x116_188 (d : Nat) (L st : List Value) (h : gd_H) : go gd_P0 d 116 188 L st h = gs gd_P0 d 116 188 L (i_msk [false, false, false, false] (i_cV 119 1 14 191) L st h) := go_eq gd_P0 d 116 188 L st h
theorem x116_191 (d : Nat) (L st : List Value) (h : gd_H) : go gd_P0 d 116 191 L st h = gs gd_P0 d 116 191 L (i_msk [false, false, false, false] (i_aret) L st h) := go_eq gd_P0 d 116 191 L st h
theorem x116_192 (d : Nat) (L st : List Value) (h : gd_H) : go gd_P0 d 116 192 L st h = gs gd_P0 d 116 192 L (i_ald 0 193 L st h) := go_eq gd_P0 d 116 192 L st h
theorem x116_193 (d : Nat) (L st : List Value) (h : gd_H) : go gd_P0 d 116 193 L st h = gs gd_P0 d 116 193 L (i_getR 12 1 196 L st h) := go_eq gd_P0 d 116 193 L st h
theorem x116_196 (d : Nat) (L st : List Value) (h : gd_H) : go gd_P0 d 116 196 L st h = gs gd_P0 d 116 196 L (i_cV 103 0 10 199 L st h) := go_eq gd_P0 d 116 196 L st h
theorem x116_199 (d : Nat) (L st : List Value) (h : gd_H) : go gd_P0 d 116 199 L st h = gs gd_P0 d 116 199 L (i_msk [false, false, true, false] (i_new 15 1 202) L st h) := go_eq gd_P0 d 116 199 L st h
theorem x116_202 (d : Nat) (L st : List Value) (h : gd_H) : go gd_P0 d 116 202 L st h = gs gd_P0 d 116 202 L (i_dup 203 L st h) := go_eq gd_P0 d 116 202 L st h
theorem x116_203 (d : Nat) (L st : List Value) (h : gd_H) : go gd_P0 d 116 203 L st h = gs gd_P0 d 116 203 L (i_ild 2 204 L st h) := go_eq gd_P0 d 116 203 L st h
theorem x116_204 (d : Nat) (L st : List Value) (h : gd_H) : go gd_P0 d 116 204 L st h = gs gd_P0 d 116 204 L (i_cV 121 1 15 207 L st h) := go_eq gd_P0 d 116 204 L st h
theorem x116_207 (d : Nat) (L st : List Value) (h : gd_H) : go gd_P0 d 116 207 L st h = gs gd_P0 d 116 207 L (i_msk [false, false, false, false] (i_aret) L st h) := go_eq gd_P0 d 116 207 L st h
theorem s116_0 (d : Nat) (h : gd_H) (v0 : Nat) : go gd_P0 d 116 0 [.ref v0, .null, .null, .null] [] h =
    if gT h v0 = 12 then if gT h (gR h v0 1) = 10 then gc gd_P0 d 116 6 9 [.ref v0, .null, .null, .null] [] (run gd_P0 d 101 [.ref (gR h v0 1), .ref 32] h) else none else none :=
  (x116_0 ..).trans ((x116_1 ..).trans ((gs_if ..).trans (ic9 ((x116_4 ..).trans ((x116_6 ..).trans ((gs_if ..).trans ((ia9 (by simp)).trans (ic9 rfl rfl))))) rfl)))
theorem s116_9 (d : Nat) (h : gd_H) (v0 : Nat) (w1 : Value) (w2 : Value) (w3 : Value) (z0 : Int32) : go gd_P0 d 116 9 [.ref v0, w1, w2, w3] [.int z0] h =
    if z0 = 0 then if gT h v0 = 12 then if gT h (gR h v0 1) = 10 then gc gd_P0 d 116 20 23 [.ref v0, .int z0, .null, .null] [] (run gd_P0 d 101 [.ref (gR h v0 1), .ref 34] h) else none else none else go gd_P0 d 116 26 [.ref v0, .int z0, .null, .null] [] h :=
  (x116_9 ..).trans ((x116_10 ..).trans ((x116_11 ..).trans ((gs_if ..).trans (ic9 ((x116_14 ..).trans ((x116_15 ..).trans ((gs_if ..).trans (ic9 ((x116_18 ..).trans ((x116_20 ..).trans ((gs_if ..).trans ((ia9 (by simp)).trans (ic9 rfl rfl))))) rfl)))) (rfl)))))
theorem s116_23 (d : Nat) (h : gd_H) (v0 : Nat) (v1 : Int32) (w2 : Value) (w3 : Value) (z0 : Int32) : go gd_P0 d 116 23 [.ref v0, .int v1, w2, w3] [.int z0] h =
    if z0 = 0 then if gT h v0 = 12 then if gT h (gR h v0 1) = 10 then gc gd_P0 d 116 109 112 [.ref v0, .int v1, .null, .null] [] (run gd_P0 d 97 [.ref (gR h v0 1)] h) else none else none else go gd_P0 d 116 26 [.ref v0, .int v1, .null, .null] [] h :=
  (x116_23 ..).trans ((gs_nif ..).trans (ic9 ((x116_105 ..).trans ((x116_106 ..).trans ((gs_if ..).trans (ic9 ((x116_109 ..).trans ((gs_if ..).trans ((ia9 (by simp)).trans (ic9 rfl rfl)))) rfl)))) (rfl)))
theorem s116_26 (d : Nat) (h : gd_H) (v0 : Nat) (v1 : Int32) (w2 : Value) (w3 : Value) : go gd_P0 d 116 26 [.ref v0, .int v1, w2, w3] [] h =
    if gT h v0 = 12 then if gT h (gR h v0 1) = 10 then gc gd_P0 d 116 30 33 [.ref v0, .int v1, .null, .null] [] (run gd_P0 d 107 [.ref (gR h v0 1)] h) else none else none :=
  (x116_26 ..).trans ((x116_27 ..).trans ((gs_if ..).trans (ic9 ((x116_30 ..).trans ((gs_if ..).trans ((ia9 (by simp)).trans (ic9 rfl rfl)))) rfl)))
theorem s116_33 (d : Nat) (h : gd_H) (v0 : Nat) (v1 : Int32) (w2 : Value) (w3 : Value) : go gd_P0 d 116 33 [.ref v0, .int v1, w2, w3] [] h =
    if gT h v0 = 12 then if gT h (gR h v0 1) = 10 then gc gd_P0 d 116 37 40 [.ref v0, .int v1, .null, .null] [] (run gd_P0 d 103 [.ref (gR h v0 1)] h) else none else none :=
  (x116_33 ..).trans ((x116_34 ..).trans ((gs_if ..).trans (ic9 ((x116_37 ..).trans ((gs_if ..).trans ((ia9 (by simp)).trans (ic9 rfl rfl)))) rfl)))
theorem s116_40 (d : Nat) (h : gd_H) (v0 : Nat) (v1 : Int32) (w2 : Value) (w3 : Value) : go gd_P0 d 116 40 [.ref v0, .int v1, w2, w3] [] h =
    if gT h v0 = 12 then if gT h (gR h v0 1) = 10 then gc gd_P0 d 116 46 49 [.ref v0, .int v1, .null, .null] [] (run gd_P0 d 106 [.ref (gR h v0 1), .int 91] h) else none else none :=
  (x116_40 ..).trans ((x116_41 ..).trans ((gs_if ..).trans (ic9 ((x116_44 ..).trans ((x116_46 ..).trans ((gs_if ..).trans ((ia9 (by simp)).trans (ic9 rfl rfl))))) rfl)))
theorem s116_49 (d : Nat) (h : gd_H) (v0 : Nat) (v1 : Int32) (w2 : Value) (w3 : Value) : go gd_P0 d 116 49 [.ref v0, .int v1, w2, w3] [] h =
    if gT h v0 = 12 then gc gd_P0 d 116 50 53 [.ref v0, .int v1, .null, .null] [] (run gd_P0 d 114 [.ref v0] h) else none :=
  (x116_49 ..).trans ((x116_50 ..).trans ((gs_if ..).trans ((ia9 (by simp)).trans (ic9 rfl rfl))))
theorem s116_53 (d : Nat) (h : gd_H) (v0 : Nat) (v1 : Int32) (w2 : Value) (w3 : Value) (z0 : Nat) : go gd_P0 d 116 53 [.ref v0, .int v1, w2, w3] [.ref z0] h =
    if gT h v0 = 12 then if gT h (gR h v0 1) = 10 then gc gd_P0 d 116 60 63 [.ref v0, .int v1, .ref z0, .null] [] (run gd_P0 d 106 [.ref (gR h v0 1), .int 44] h) else none else none :=
  (x116_53 ..).trans ((x116_54 ..).trans ((x116_55 ..).trans ((gs_if ..).trans (ic9 ((x116_58 ..).trans ((x116_60 ..).trans ((gs_if ..).trans ((ia9 (by simp)).trans (ic9 rfl rfl))))) rfl))))
theorem s116_63 (d : Nat) (h : gd_H) (v0 : Nat) (v1 : Int32) (v2 : Nat) (w3 : Value) : go gd_P0 d 116 63 [.ref v0, .int v1, .ref v2, w3] [] h =
    if gT h v0 = 12 then gc gd_P0 d 116 64 67 [.ref v0, .int v1, .ref v2, .null] [] (run gd_P0 d 114 [.ref v0] h) else none :=
  (x116_63 ..).trans ((x116_64 ..).trans ((gs_if ..).trans ((ia9 (by simp)).trans (ic9 rfl rfl))))
theorem s116_67 (d : Nat) (h : gd_H) (v0 : Nat) (v1 : Int32) (v2 : Nat) (w3 : Value) (z0 : Nat) : go gd_P0 d 116 67 [.ref v0, .int v1, .ref v2, w3] [.ref z0] h =
    if gT h v0 = 12 then if gT h (gR h v0 1) = 10 then gc gd_P0 d 116 74 77 [.ref v0, .int v1, .ref v2, .ref z0] [] (run gd_P0 d 106 [.ref (gR h v0 1), .int 93] h) else none else none :=
  (x116_67 ..).trans ((x116_68 ..).trans ((x116_69 ..).trans ((gs_if ..).trans (ic9 ((x116_72 ..).trans ((x116_74 ..).trans ((gs_if ..).trans ((ia9 (by simp)).trans (ic9 rfl rfl))))) rfl))))
theorem s116_77 (d : Nat) (h : gd_H) (v0 : Nat) (v1 : Int32) (v2 : Nat) (v3 : Nat) : go gd_P0 d 116 77 [.ref v0, .int v1, .ref v2, .ref v3] [] h =
    if gT h v0 = 12 then if gT h (gR h v0 1) = 10 then gc gd_P0 d 116 81 84 [.ref v0, .int v1, .ref v2, .ref v3] [] (run gd_P0 d 108 [.ref (gR h v0 1)] h) else none else none :=
  (x116_77 ..).trans ((x116_78 ..).trans ((gs_if ..).trans (ic9 ((x116_81 ..).trans ((gs_if ..).trans ((ia9 (by simp)).trans (ic9 rfl rfl)))) rfl)))
theorem s116_84 (d : Nat) (h : gd_H) (w0 : Value) (v1 : Int32) (v2 : Nat) (v3 : Nat) : go gd_P0 d 116 84 [w0, .int v1, .ref v2, .ref v3] [] h =
    go gd_P0 d 116 87 [.null, .int v1, .ref v2, .ref v3] [.ref (gS h)] (nw h 13 0 3) :=
  (x116_84 ..)
theorem s116_87 (d : Nat) (h : gd_H) (w0 : Value) (v1 : Int32) (v2 : Nat) (v3 : Nat) (z0 : Nat) : go gd_P0 d 116 87 [w0, .int v1, .ref v2, .ref v3] [.ref z0] h =
    if v1 = 0 then go gd_P0 d 116 99 [w0, .int v1, .ref v2, .ref v3] [.int 93, .ref z0, .ref z0] h else go gd_P0 d 116 99 [w0, .int v1, .ref v2, .ref v3] [.int 91, .ref z0, .ref z0] h :=
  (x116_87 ..).trans ((x116_88 ..).trans ((x116_89 ..).trans ((gs_if ..).trans (ic9 ((x116_97 ..)) ((x116_92 ..).trans ((x116_94 ..)))))))
theorem s116_99 (d : Nat) (h : gd_H) (w0 : Value) (w1 : Value) (v2 : Nat) (v3 : Nat) (z0 : Int32) (z1 : Nat) (z2 : Nat) : go gd_P0 d 116 99 [w0, w1, .ref v2, .ref v3] [.int z0, .ref z1, .ref z2] h =
    if gT h z1 = 13 then gc gd_P0 d 116 101 104 [.null, .null, .ref v2, .ref v3] [.ref z2] (run gd_P0 d 117 [.ref z1, .int z0, .ref v2, .ref v3] h) else none :=
  (x116_99 ..).trans ((x116_100 ..).trans ((x116_101 ..).trans ((gs_if ..).trans ((ia9 (by simp)).trans (ic9 rfl rfl)))))
theorem s116_104 (d : Nat) (h : gd_H) (w0 : Value) (w1 : Value) (w2 : Value) (w3 : Value) (z0 : Nat) : go gd_P0 d 116 104 [w0, w1, w2, w3] [.ref z0] h =
    some (.inl (some (.ref z0)), h) :=
  (x116_104 ..)
theorem s116_112 (d : Nat) (h : gd_H) (v0 : Nat) (w1 : Value) (w2 : Value) (w3 : Value) (z0 : Int32) : go gd_P0 d 116 112 [.ref v0, w1, w2, w3] [.int z0] h =
    if z0 = 40 then if gT h v0 = 12 then if gT h (gR h v0 1) = 10 then gc gd_P0 d 116 121 124 [.ref v0, .null, .null, .null] [] (run gd_P0 d 107 [.ref (gR h v0 1)] h) else none else none else if gT h v0 = 12 then if gT h v0 = 12 then if gT h (gR h v0 1) = 10 then gc gd_P0 d 116 164 167 [.ref v0, .null, .null, .null] [] (run gd_P0 d 100 [.ref (gR h v0 1), .ref (gR h v0 0)] h) else none else none else none :=
  (x116_112 ..).trans ((x116_114 ..).trans ((gs_if ..).trans (ic9 ((x116_117 ..).trans ((x116_118 ..).trans ((gs_if ..).trans (ic9 ((x116_121 ..).trans ((gs_if ..).trans ((ia9 (by simp)).trans (ic9 rfl rfl)))) rfl)))) ((x116_156 ..).trans ((x116_157 ..).trans ((gs_if ..).trans (ic9 ((x116_160 ..).trans ((x116_161 ..).trans ((gs_if ..).trans (ic9 ((x116_164 ..).trans ((gs_if ..).trans ((ia9 (by simp)).trans (ic9 rfl rfl)))) rfl)))) rfl)))))))
theorem s116_124 (d : Nat) (h : gd_H) (v0 : Nat) (w1 : Value) (w2 : Value) (w3 : Value) : go gd_P0 d 116 124 [.ref v0, w1, w2, w3] [] h =
    if gT h v0 = 12 then if gT h (gR h v0 1) = 10 then gc gd_P0 d 116 130 133 [.ref v0, .null, .null, .null] [] (run gd_P0 d 106 [.ref (gR h v0 1), .int 40] h) else none else none :=
  (x116_124 ..).trans ((x116_125 ..).trans ((gs_if ..).trans (ic9 ((x116_128 ..).trans ((x116_130 ..).trans ((gs_if ..).trans ((ia9 (by simp)).trans (ic9 rfl rfl))))) rfl)))
theorem s116_133 (d : Nat) (h : gd_H) (v0 : Nat) (w1 : Value) (w2 : Value) (w3 : Value) : go gd_P0 d 116 133 [.ref v0, w1, w2, w3] [] h =
    if gT h v0 = 12 then gc gd_P0 d 116 134 137 [.ref v0, .null, .null, .null] [] (run gd_P0 d 114 [.ref v0] h) else none :=
  (x116_133 ..).trans ((x116_134 ..).trans ((gs_if ..).trans ((ia9 (by simp)).trans (ic9 rfl rfl))))
theorem s116_137 (d : Nat) (h : gd_H) (v0 : Nat) (w1 : Value) (w2 : Value) (w3 : Value) (z0 : Nat) : go gd_P0 d 116 137 [.ref v0, w1, w2, w3] [.ref z0] h =
    if gT h v0 = 12 then if gT h (gR h v0 1) = 10 then gc gd_P0 d 116 144 147 [.ref v0, .null, .ref z0, .null] [] (run gd_P0 d 106 [.ref (gR h v0 1), .int 41] h) else none else none :=
  (x116_137 ..).trans ((x116_138 ..).trans ((x116_139 ..).trans ((gs_if ..).trans (ic9 ((x116_142 ..).trans ((x116_144 ..).trans ((gs_if ..).trans ((ia9 (by simp)).trans (ic9 rfl rfl))))) rfl))))
theorem s116_147 (d : Nat) (h : gd_H) (v0 : Nat) (w1 : Value) (v2 : Nat) (w3 : Value) : go gd_P0 d 116 147 [.ref v0, w1, .ref v2, w3] [] h =
    if gT h v0 = 12 then if gT h (gR h v0 1) = 10 then gc gd_P0 d 116 151 154 [.ref v0, .null, .ref v2, .null] [] (run gd_P0 d 108 [.ref (gR h v0 1)] h) else none else none :=
  (x116_147 ..).trans ((x116_148 ..).trans ((gs_if ..).trans (ic9 ((x116_151 ..).trans ((gs_if ..).trans ((ia9 (by simp)).trans (ic9 rfl rfl)))) rfl)))
theorem s116_154 (d : Nat) (h : gd_H) (w0 : Value) (w1 : Value) (v2 : Nat) (w3 : Value) : go gd_P0 d 116 154 [w0, w1, .ref v2, w3] [] h =
    some (.inl (some (.ref v2)), h) :=
  (x116_154 ..).trans ((x116_155 ..))
theorem s116_167 (d : Nat) (h : gd_H) (v0 : Nat) (w1 : Value) (w2 : Value) (w3 : Value) (z0 : Int32) : go gd_P0 d 116 167 [.ref v0, w1, w2, w3] [.int z0] h =
    if z0 = (-1) then go gd_P0 d 116 176 [.ref v0, .null, .int z0, .null] [.ref (gS h)] (nw h 14 0 1) else if gT h v0 = 12 then if gT h (gR h v0 1) = 10 then gc gd_P0 d 116 196 199 [.ref v0, .null, .int z0, .null] [] (run gd_P0 d 103 [.ref (gR h v0 1)] h) else none else none :=
  (x116_167 ..).trans ((x116_168 ..).trans ((x116_169 ..).trans ((x116_170 ..).trans ((gs_if ..).trans (ic9 ((x116_173 ..)) ((x116_192 ..).trans ((x116_193 ..).trans ((gs_if ..).trans (ic9 ((x116_196 ..).trans ((gs_if ..).trans ((ia9 (by simp)).trans (ic9 rfl rfl)))) rfl)))))))))
theorem s116_176 (d : Nat) (h : gd_H) (v0 : Nat) (w1 : Value) (w2 : Value) (w3 : Value) (z0 : Nat) : go gd_P0 d 116 176 [.ref v0, w1, w2, w3] [.ref z0] h =
    if gT h v0 = 12 then if gT h (gR h v0 1) = 10 then gc gd_P0 d 116 185 188 [.ref v0, w1, w2, w3] [.ref z0, .ref z0] (run gd_P0 d 104 [.ref (gR h v0 1), .int 0, .int 999] h) else none else none :=
  (x116_176 ..).trans ((x116_177 ..).trans ((x116_178 ..).trans ((gs_if ..).trans (ic9 ((x116_181 ..).trans ((x116_182 ..).trans ((x116_185 ..).trans ((gs_if ..).trans ((ia9 (by simp)).trans (ic9 rfl rfl)))))) rfl))))
theorem s116_188 (d : Nat) (h : gd_H) (w0 : Value) (w1 : Value) (w2 : Value) (w3 : Value) (z0 : Int32) (z1 : Nat) (z2 : Nat) : go gd_P0 d 116 188 [w0, w1, w2, w3] [.int z0, .ref z1, .ref z2] h =
    if gT h z1 = 14 then gc gd_P0 d 116 188 191 [.null, .null, .null, .null] [.ref z2] (run gd_P0 d 119 [.ref z1, .int z0] h) else none :=
  (x116_188 ..).trans ((gs_nif ..).trans ((ia9 (by simp)).trans (ic9 rfl rfl)))
theorem s116_191 (d : Nat) (h : gd_H) (w0 : Value) (w1 : Value) (w2 : Value) (w3 : Value) (z0 : Nat) : go gd_P0 d 116 191 [w0, w1, w2, w3] [.ref z0] h =
    some (.inl (some (.ref z0)), h) :=
  (x116_191 ..)
theorem s116_199 (d : Nat) (h : gd_H) (w0 : Value) (w1 : Value) (v2 : Int32) (w3 : Value) : go gd_P0 d 116 199 [w0, w1, .int v2, w3] [] h =
    go gd_P0 d 116 202 [.null, .null, .int v2, .null] [.ref (gS h)] (nw h 15 0 1) :=
  (x116_199 ..)
theorem s116_202 (d : Nat) (h : gd_H) (w0 : Value) (w1 : Value) (v2 : Int32) (w3 : Value) (z0 : Nat) : go gd_P0 d 116 202 [w0, w1, .int v2, w3] [.ref z0] h =
    if gT h z0 = 15 then gc gd_P0 d 116 204 207 [w0, w1, .int v2, w3] [.ref z0] (run gd_P0 d 121 [.ref z0, .int v2] h) else none :=
  (x116_202 ..).trans ((x116_203 ..).trans ((x116_204 ..).trans ((gs_if ..).trans ((ia9 (by simp)).trans (ic9 rfl rfl)))))
theorem s116_207 (d : Nat) (h : gd_H) (w0 : Value) (w1 : Value) (w2 : Value) (w3 : Value) (z0 : Nat) : go gd_P0 d 116 207 [w0, w1, w2, w3] [.ref z0] h =
    some (.inl (some (.ref z0)), h) :=
  (x116_207 ..)
theorem r116 (d : Nat) (h : gd_H) (v0 : Nat) : run gd_P0 (d + 1) 116 [.ref v0] h = go gd_P0 d 116 0 [.ref v0, .null, .null, .null] [] h := run_succ gd_P0 d 116 [.ref v0] h (Nat.le_of_ble_eq_true rfl)
theorem x117_0 (d : Nat) (L st : List Value) (h : gd_H) : go gd_P0 d 117 0 L st h = gs gd_P0 d 117 0 L (i_ald 0 1 L st h) := go_eq gd_P0 d 117 0 L st h
theorem x117_1 (d : Nat) (L st : List Value) (h : gd_H) : go gd_P0 d 117 1 L st h = gs gd_P0 d 117 1 L (i_oin 4 L st h) := go_eq gd_P0 d 117 1 L st h
theorem x117_4 (d : Nat) (L st : List Value) (h : gd_H) : go gd_P0 d 117 4 L st h = gs gd_P0 d 117 4 L (i_msk [true, true, true, true] (i_ald 0 5) L st h) := go_eq gd_P0 d 117 4 L st h
theorem x117_5 (d : Nat) (L st : List Value) (h : gd_H) : go gd_P0 d 117 5 L st h = gs gd_P0 d 117 5 L (i_ild 1 6 L st h) := go_eq gd_P0 d 117 5 L st h
theorem x117_6 (d : Nat) (L st : List Value) (h : gd_H) : go gd_P0 d 117 6 L st h = gs gd_P0 d 117 6 L (i_putC 13 0 9 L st h) := go_eq gd_P0 d 117 6 L st h
theorem x117_9 (d : Nat) (L st : List Value) (h : gd_H) : go gd_P0 d 117 9 L st h = gs gd_P0 d 117 9 L (i_ald 0 10 L st h) := go_eq gd_P0 d 117 9 L st h
theorem x117_10 (d : Nat) (L st : List Value) (h : gd_H) : go gd_P0 d 117 10 L st h = gs gd_P0 d 117 10 L (i_ald 2 11 L st h) := go_eq gd_P0 d 117 10 L st h
theorem x117_11 (d : Nat) (L st : List Value) (h : gd_H) : go gd_P0 d 117 11 L st h = gs gd_P0 d 117 11 L (i_putR 13 1 14 L st h) := go_eq gd_P0 d 117 11 L st h
theorem x117_14 (d : Nat) (L st : List Value) (h : gd_H) : go gd_P0 d 117 14 L st h = gs gd_P0 d 117 14 L (i_ald 0 15 L st h) := go_eq gd_P0 d 117 14 L st h
theorem x117_15 (d : Nat) (L st : List Value) (h : gd_H) : go gd_P0 d 117 15 L st h = gs gd_P0 d 117 15 L (i_ald 3 16 L st h) := go_eq gd_P0 d 117 15 L st h
theorem x117_16 (d : Nat) (L st : List Value) (h : gd_H) : go gd_P0 d 117 16 L st h = gs gd_P0 d 117 16 L (i_putR 13 2 19 L st h) := go_eq gd_P0 d 117 16 L st h
theorem x117_19 (d : Nat) (L st : List Value) (h : gd_H) : go gd_P0 d 117 19 L st h = gs gd_P0 d 117 19 L (i_ret L st h) := go_eq gd_P0 d 117 19 L st h
theorem s117_0 (d : Nat) (h : gd_H) (v0 : Nat) (v1 : Int32) (v2 : Nat) (v3 : Nat) : go gd_P0 d 117 0 [.ref v0, .int v1, .ref v2, .ref v3] [] h =
    if 4 ≤ v0 then go gd_P0 d 117 4 [.ref v0, .int v1, .ref v2, .ref v3] [] h else none :=
  (x117_0 ..).trans ((x117_1 ..).trans ((gs_if ..).trans ((ia9 (by simp)).trans (ic9 (rfl) rfl))))
theorem s117_4 (d : Nat) (h : gd_H) (v0 : Nat) (v1 : Int32) (v2 : Nat) (v3 : Nat) : go gd_P0 d 117 4 [.ref v0, .int v1, .ref v2, .ref v3] [] h =
    if gT h v0 = 13 ∧ (v1.toUInt32.toUInt16.toUInt32.toInt32 = v1 ∧ (0 ≤ v1 ∧ v1 ≤ 65535)) then if gT h v0 = 13 then if gT h v0 = 13 then some (.inl none, (wR (wI h (up1 (gI h) v0 0 v1)) (up1 (up1 (gR h) v0 1 v2) v0 2 v3))) else none else none else none :=
  (x117_4 ..).trans ((x117_5 ..).trans ((x117_6 ..).trans ((gs_if ..).trans (ic9 ((x117_9 ..).trans ((x117_10 ..).trans ((x117_11 ..).trans ((gs_if ..).trans (ic9 ((x117_14 ..).trans ((x117_15 ..).trans ((x117_16 ..).trans ((gs_if ..).trans (ic9 ((x117_19 ..)) rfl))))) rfl))))) rfl))))
theorem r117 (d : Nat) (h : gd_H) (v0 : Nat) (v1 : Int32) (v2 : Nat) (v3 : Nat) : run gd_P0 (d + 1) 117 [.ref v0, .int v1, .ref v2, .ref v3] h = go gd_P0 d 117 0 [.ref v0, .int v1, .ref v2, .ref v3] [] h := run_succ gd_P0 d 117 [.ref v0, .int v1, .ref v2, .ref v3] h (Nat.le_of_ble_eq_true rfl)
theorem x118_0 (d : Nat) (L st : List Value) (h : gd_H) : go gd_P0 d 118 0 L st h = gs gd_P0 d 118 0 L (i_ald 0 1 L st h) := go_eq gd_P0 d 118 0 L st h
theorem x118_1 (d : Nat) (L st : List Value) (h : gd_H) : go gd_P0 d 118 1 L st h = gs gd_P0 d 118 1 L (i_getR 13 1 4 L st h) := go_eq gd_P0 d 118 1 L st h
theorem x118_4 (d : Nat) (L st : List Value) (h : gd_H) : go gd_P0 d 118 4 L st h = gs gd_P0 d 118 4 L (i_ald 1 5 L st h) := go_eq gd_P0 d 118 4 L st h
theorem x118_5 (d : Nat) (L st : List Value) (h : gd_H) : go gd_P0 d 118 5 L st h = gs gd_P0 d 118 5 L (i_cF gd_tkF 1 10 L st h) := go_eq gd_P0 d 118 5 L st h
theorem x118_10 (d : Nat) (L st : List Value) (h : gd_H) : go gd_P0 d 118 10 L st h = gs gd_P0 d 118 10 L (i_msk [true, true, false, false] (i_ist 2 11) L st h) := go_eq gd_P0 d 118 10 L st h
theorem x118_11 (d : Nat) (L st : List Value) (h : gd_H) : go gd_P0 d 118 11 L st h = gs gd_P0 d 118 11 L (i_ald 0 12 L st h) := go_eq gd_P0 d 118 11 L st h
theorem x118_12 (d : Nat) (L st : List Value) (h : gd_H) : go gd_P0 d 118 12 L st h = gs gd_P0 d 118 12 L (i_getR 13 2 15 L st h) := go_eq gd_P0 d 118 12 L st h
theorem x118_15 (d : Nat) (L st : List Value) (h : gd_H) : go gd_P0 d 118 15 L st h = gs gd_P0 d 118 15 L (i_ald 1 16 L st h) := go_eq gd_P0 d 118 15 L st h
theorem x118_16 (d : Nat) (L st : List Value) (h : gd_H) : go gd_P0 d 118 16 L st h = gs gd_P0 d 118 16 L (i_cF gd_tkF 1 21 L st h) := go_eq gd_P0 d 118 16 L st h
theorem x118_21 (d : Nat) (L st : List Value) (h : gd_H) : go gd_P0 d 118 21 L st h = gs gd_P0 d 118 21 L (i_msk [true, false, true, false] (i_ist 3 22) L st h) := go_eq gd_P0 d 118 21 L st h
theorem x118_22 (d : Nat) (L st : List Value) (h : gd_H) : go gd_P0 d 118 22 L st h = gs gd_P0 d 118 22 L (i_ald 0 23 L st h) := go_eq gd_P0 d 118 22 L st h
theorem x118_23 (d : Nat) (L st : List Value) (h : gd_H) : go gd_P0 d 118 23 L st h = gs gd_P0 d 118 23 L (i_getI 13 0 26 L st h) := go_eq gd_P0 d 118 23 L st h
theorem x118_26 (d : Nat) (L st : List Value) (h : gd_H) : go gd_P0 d 118 26 L st h = gs gd_P0 d 118 26 L (i_sw [(37, 108), (42, 92), (43, 84), (45, 88), (47, 96), (91, 120)] 126 L st h) := go_eq gd_P0 d 118 26 L st h
theorem x118_84 (d : Nat) (L st : List Value) (h : gd_H) : go gd_P0 d 118 84 L st h = gs gd_P0 d 118 84 L (i_ild 2 85 L st h) := go_eq gd_P0 d 118 84 L st h
theorem x118_85 (d : Nat) (L st : List Value) (h : gd_H) : go gd_P0 d 118 85 L st h = gs gd_P0 d 118 85 L (i_ild 3 86 L st h) := go_eq gd_P0 d 118 85 L st h
theorem x118_86 (d : Nat) (L st : List Value) (h : gd_H) : go gd_P0 d 118 86 L st h = gs gd_P0 d 118 86 L (i_iadd 87 L st h) := go_eq gd_P0 d 118 86 L st h
theorem x118_87 (d : Nat) (L st : List Value) (h : gd_H) : go gd_P0 d 118 87 L st h = gs gd_P0 d 118 87 L (i_iret L st h) := go_eq gd_P0 d 118 87 L st h
theorem x118_88 (d : Nat) (L st : List Value) (h : gd_H) : go gd_P0 d 118 88 L st h = gs gd_P0 d 118 88 L (i_ild 2 89 L st h) := go_eq gd_P0 d 118 88 L st h
theorem x118_89 (d : Nat) (L st : List Value) (h : gd_H) : go gd_P0 d 118 89 L st h = gs gd_P0 d 118 89 L (i_ild 3 90 L st h) := go_eq gd_P0 d 118 89 L st h
theorem x118_90 (d : Nat) (L st : List Value) (h : gd_H) : go gd_P0 d 118 90 L st h = gs gd_P0 d 118 90 L (i_isub 91 L st h) := go_eq gd_P0 d 118 90 L st h
theorem x118_91 (d : Nat) (L st : List Value) (h : gd_H) : go gd_P0 d 118 91 L st h = gs gd_P0 d 118 91 L (i_iret L st h) := go_eq gd_P0 d 118 91 L st h
theorem x118_92 (d : Nat) (L st : List Value) (h : gd_H) : go gd_P0 d 118 92 L st h = gs gd_P0 d 118 92 L (i_ild 2 93 L st h) := go_eq gd_P0 d 118 92 L st h
theorem x118_93 (d : Nat) (L st : List Value) (h : gd_H) : go gd_P0 d 118 93 L st h = gs gd_P0 d 118 93 L (i_ild 3 94 L st h) := go_eq gd_P0 d 118 93 L st h
theorem x118_94 (d : Nat) (L st : List Value) (h : gd_H) : go gd_P0 d 118 94 L st h = gs gd_P0 d 118 94 L (i_imul 95 L st h) := go_eq gd_P0 d 118 94 L st h
theorem x118_95 (d : Nat) (L st : List Value) (h : gd_H) : go gd_P0 d 118 95 L st h = gs gd_P0 d 118 95 L (i_iret L st h) := go_eq gd_P0 d 118 95 L st h
theorem x118_96 (d : Nat) (L st : List Value) (h : gd_H) : go gd_P0 d 118 96 L st h = gs gd_P0 d 118 96 L (i_ild 3 97 L st h) := go_eq gd_P0 d 118 96 L st h
theorem x118_97 (d : Nat) (L st : List Value) (h : gd_H) : go gd_P0 d 118 97 L st h = gs gd_P0 d 118 97 L (i_ifne 104 100 L st h) := go_eq gd_P0 d 118 97 L st h
theorem x118_100 (d : Nat) (L st : List Value) (h : gd_H) : go gd_P0 d 118 100 L st h = gs gd_P0 d 118 100 L (i_psh (.int 0) 101 L st h) := go_eq gd_P0 d 118 100 L st h
theorem x118_101 (d : Nat) (L st : List Value) (h : gd_H) : go gd_P0 d 118 101 L st h = gs gd_P0 d 118 101 L (i_goto 107 L st h) := go_eq gd_P0 d 118 101 L st h
theorem x118_104 (d : Nat) (L st : List Value) (h : gd_H) : go gd_P0 d 118 104 L st h = gs gd_P0 d 118 104 L (i_ild 2 105 L st h) := go_eq gd_P0 d 118 104 L st h
theorem x118_105 (d : Nat) (L st : List Value) (h : gd_H) : go gd_P0 d 118 105 L st h = gs gd_P0 d 118 105 L (i_ild 3 106 L st h) := go_eq gd_P0 d 118 105 L st h
theorem x118_106 (d : Nat) (L st : List Value) (h : gd_H) : go gd_P0 d 118 106 L st h = gs gd_P0 d 118 106 L (i_idiv 107 L st h) := go_eq gd_P0 d 118 106 L st h
theorem x118_107 (d : Nat) (L st : List Value) (h : gd_H) : go gd_P0 d 118 107 L st h = gs gd_P0 d 118 107 L (i_msk [false, false, false, false] (i_iret) L st h) := go_eq gd_P0 d 118 107 L st h
theorem x118_108 (d : Nat) (L st : List Value) (h : gd_H) : go gd_P0 d 118 108 L st h = gs gd_P0 d 118 108 L (i_ild 3 109 L st h) := go_eq gd_P0 d 118 108 L st h
theorem x118_109 (d : Nat) (L st : List Value) (h : gd_H) : go gd_P0 d 118 109 L st h = gs gd_P0 d 118 109 L (i_ifne 116 112 L st h) := go_eq gd_P0 d 118 109 L st h
theorem x118_112 (d : Nat) (L st : List Value) (h : gd_H) : go gd_P0 d 118 112 L st h = gs gd_P0 d 118 112 L (i_psh (.int 0) 113 L st h) := go_eq gd_P0 d 118 112 L st h
theorem x118_113 (d : Nat) (L st : List Value) (h : gd_H) : go gd_P0 d 118 113 L st h = gs gd_P0 d 118 113 L (i_goto 119 L st h) := go_eq gd_P0 d 118 113 L st h
theorem x118_116 (d : Nat) (L st : List Value) (h : gd_H) : go gd_P0 d 118 116 L st h = gs gd_P0 d 118 116 L (i_ild 2 117 L st h) := go_eq gd_P0 d 118 116 L st h
theorem x118_117 (d : Nat) (L st : List Value) (h : gd_H) : go gd_P0 d 118 117 L st h = gs gd_P0 d 118 117 L (i_ild 3 118 L st h) := go_eq gd_P0 d 118 117 L st h
theorem x118_118 (d : Nat) (L st : List Value) (h : gd_H) : go gd_P0 d 118 118 L st h = gs gd_P0 d 118 118 L (i_irem 119 L st h) := go_eq gd_P0 d 118 118 L st h
theorem x118_119 (d : Nat) (L st : List Value) (h : gd_H) : go gd_P0 d 118 119 L st h = gs gd_P0 d 118 119 L (i_msk [false, false, false, false] (i_iret) L st h) := go_eq gd_P0 d 118 119 L st h
theorem x118_120 (d : Nat) (L st : List Value) (h : gd_H) : go gd_P0 d 118 120 L st h = gs gd_P0 d 118 120 L (i_ild 2 121 L st h) := go_eq gd_P0 d 118 120 L st h
theorem x118_121 (d : Nat) (L st : List Value) (h : gd_H) : go gd_P0 d 118 121 L st h = gs gd_P0 d 118 121 L (i_ild 3 122 L st h) := go_eq gd_P0 d 118 121 L st h
theorem x118_122 (d : Nat) (L st : List Value) (h : gd_H) : go gd_P0 d 118 122 L st h = gs gd_P0 d 118 122 L (i_mmin 125 L st h) := go_eq gd_P0 d 118 122 L st h
theorem x118_125 (d : Nat) (L st : List Value) (h : gd_H) : go gd_P0 d 118 125 L st h = gs gd_P0 d 118 125 L (i_msk [false, false, false, false] (i_iret) L st h) := go_eq gd_P0 d 118 125 L st h
theorem x118_126 (d : Nat) (L st : List Value) (h : gd_H) : go gd_P0 d 118 126 L st h = gs gd_P0 d 118 126 L (i_ild 2 127 L st h) := go_eq gd_P0 d 118 126 L st h
theorem x118_127 (d : Nat) (L st : List Value) (h : gd_H) : go gd_P0 d 118 127 L st h = gs gd_P0 d 118 127 L (i_ild 3 128 L st h) := go_eq gd_P0 d 118 127 L st h
theorem x118_128 (d : Nat) (L st : List Value) (h : gd_H) : go gd_P0 d 118 128 L st h = gs gd_P0 d 118 128 L (i_mmax 131 L st h) := go_eq gd_P0 d 118 128 L st h
theorem x118_131 (d : Nat) (L st : List Value) (h : gd_H) : go gd_P0 d 118 131 L st h = gs gd_P0 d 118 131 L (i_msk [false, false, false, false] (i_iret) L st h) := go_eq gd_P0 d 118 131 L st h
theorem s118_0 (d : Nat) (h : gd_H) (v0 : Nat) (v1 : Nat) : go gd_P0 d 118 0 [.ref v0, .ref v1, .null, .null] [] h =
    if gT h v0 = 13 then match slk gd_tkF (gT h (gR h v0 1)) with
    | some k9 => gc gd_P0 d 118 5 10 [.ref v0, .ref v1, .null, .null] [] (run gd_P0 d k9 [.ref (gR h v0 1), .ref v1] h)
    | none => none else none :=
  (x118_0 ..).trans ((x118_1 ..).trans ((gs_if ..).trans (ic9 ((x118_4 ..).trans ((x118_5 ..).trans (gs_cF rfl (Nat.le_of_ble_eq_true rfl)))) rfl)))
theorem s118_10 (d : Nat) (h : gd_H) (v0 : Nat) (v1 : Nat) (w2 : Value) (w3 : Value) (z0 : Int32) : go gd_P0 d 118 10 [.ref v0, .ref v1, w2, w3] [.int z0] h =
    if gT h v0 = 13 then match slk gd_tkF (gT h (gR h v0 2)) with
    | some k9 => gc gd_P0 d 118 16 21 [.ref v0, .ref v1, .int z0, .null] [] (run gd_P0 d k9 [.ref (gR h v0 2), .ref v1] h)
    | none => none else none :=
  (x118_10 ..).trans ((x118_11 ..).trans ((x118_12 ..).trans ((gs_if ..).trans (ic9 ((x118_15 ..).trans ((x118_16 ..).trans (gs_cF rfl (Nat.le_of_ble_eq_true rfl)))) rfl))))
theorem s118_21 (d : Nat) (h : gd_H) (v0 : Nat) (w1 : Value) (v2 : Int32) (w3 : Value) (z0 : Int32) : go gd_P0 d 118 21 [.ref v0, w1, .int v2, w3] [.int z0] h =
    if gT h v0 = 13 then if (gI h v0 0) = 37 then if z0 = 0 then go gd_P0 d 118 119 [.ref v0, .null, .int v2, .int z0] [.int 0] h else if z0 = 0 then none else go gd_P0 d 118 119 [.ref v0, .null, .int v2, .int z0] [.int (v2 - v2 / z0 * z0)] h else if (gI h v0 0) = 42 then some (.inl (some (.int (v2 * z0))), h) else if (gI h v0 0) = 43 then some (.inl (some (.int (v2 + z0))), h) else if (gI h v0 0) = 45 then some (.inl (some (.int (v2 - z0))), h) else if (gI h v0 0) = 47 then if z0 = 0 then go gd_P0 d 118 107 [.ref v0, .null, .int v2, .int z0] [.int 0] h else if z0 = 0 then none else go gd_P0 d 118 107 [.ref v0, .null, .int v2, .int z0] [.int (v2 / z0)] h else if (gI h v0 0) = 91 then go gd_P0 d 118 125 [.ref v0, .null, .int v2, .int z0] [.int (if z0 < v2 then z0 else v2)] h else go gd_P0 d 118 131 [.ref v0, .null, .int v2, .int z0] [.int (if v2 < z0 then z0 else v2)] h else none :=
  (x118_21 ..).trans ((x118_22 ..).trans ((x118_23 ..).trans ((gs_if ..).trans (ic9 ((x118_26 ..).trans ((go_if ..).trans (ic9 ((x118_108 ..).trans ((x118_109 ..).trans ((gs_if ..).trans (ic9 ((x118_112 ..).trans ((x118_113 ..))) ((x118_116 ..).trans ((x118_117 ..).trans ((x118_118 ..).trans ((gs_if ..).trans (ic9 rfl (rfl)))))))))) ((go_if ..).trans (ic9 ((x118_92 ..).trans ((x118_93 ..).trans ((x118_94 ..).trans ((x118_95 ..))))) ((go_if ..).trans (ic9 ((x118_84 ..).trans ((x118_85 ..).trans ((x118_86 ..).trans ((x118_87 ..))))) ((go_if ..).trans (ic9 ((x118_88 ..).trans ((x118_89 ..).trans ((x118_90 ..).trans ((x118_91 ..))))) ((go_if ..).trans (ic9 ((x118_96 ..).trans ((x118_97 ..).trans ((gs_if ..).trans (ic9 ((x118_100 ..).trans ((x118_101 ..))) ((x118_104 ..).trans ((x118_105 ..).trans ((x118_106 ..).trans ((gs_if ..).trans (ic9 rfl (rfl)))))))))) ((go_if ..).trans (ic9 ((x118_120 ..).trans ((x118_121 ..).trans ((x118_122 ..)))) ((x118_126 ..).trans ((x118_127 ..).trans ((x118_128 ..))))))))))))))))) rfl))))
theorem s118_107 (d : Nat) (h : gd_H) (w0 : Value) (w1 : Value) (w2 : Value) (w3 : Value) (z0 : Int32) : go gd_P0 d 118 107 [w0, w1, w2, w3] [.int z0] h =
    some (.inl (some (.int z0)), h) :=
  (x118_107 ..)
theorem s118_119 (d : Nat) (h : gd_H) (w0 : Value) (w1 : Value) (w2 : Value) (w3 : Value) (z0 : Int32) : go gd_P0 d 118 119 [w0, w1, w2, w3] [.int z0] h =
    some (.inl (some (.int z0)), h) :=
  (x118_119 ..)
theorem s118_125 (d : Nat) (h : gd_H) (w0 : Value) (w1 : Value) (w2 : Value) (w3 : Value) (z0 : Int32) : go gd_P0 d 118 125 [w0, w1, w2, w3] [.int z0] h =
    some (.inl (some (.int z0)), h) :=
  (x118_125 ..)
theorem s118_131 (d : Nat) (h : gd_H) (w0 : Value) (w1 : Value) (w2 : Value) (w3 : Value) (z0 : Int32) : go gd_P0 d 118 131 [w0, w1, w2, w3] [.int z0] h =
    some (.inl (some (.int z0)), h) :=
  (x118_131 ..)
theorem r118 (d : Nat) (h : gd_H) (v0 : Nat) (v1 : Nat) : run gd_P0 (d + 1) 118 [.ref v0, .ref v1] h = go gd_P0 d 118 0 [.ref v0, .ref v1, .null, .null] [] h := run_succ gd_P0 d 118 [.ref v0, .ref v1] h (Nat.le_of_ble_eq_true rfl)
theorem x119_0 (d : Nat) (L st : List Value) (h : gd_H) : go gd_P0 d 119 0 L st h = gs gd_P0 d 119 0 L (i_ald 0 1 L st h) := go_eq gd_P0 d 119 0 L st h
theorem x119_1 (d : Nat) (L st : List Value) (h : gd_H) : go gd_P0 d 119 1 L st h = gs gd_P0 d 119 1 L (i_oin 4 L st h) := go_eq gd_P0 d 119 1 L st h
theorem x119_4 (d : Nat) (L st : List Value) (h : gd_H) : go gd_P0 d 119 4 L st h = gs gd_P0 d 119 4 L (i_msk [true, true] (i_ald 0 5) L st h) := go_eq gd_P0 d 119 4 L st h
theorem x119_5 (d : Nat) (L st : List Value) (h : gd_H) : go gd_P0 d 119 5 L st h = gs gd_P0 d 119 5 L (i_ild 1 6 L st h) := go_eq gd_P0 d 119 5 L st h
theorem x119_6 (d : Nat) (L st : List Value) (h : gd_H) : go gd_P0 d 119 6 L st h = gs gd_P0 d 119 6 L (i_putI 14 0 9 L st h) := go_eq gd_P0 d 119 6 L st h
theorem x119_9 (d : Nat) (L st : List Value) (h : gd_H) : go gd_P0 d 119 9 L st h = gs gd_P0 d 119 9 L (i_ret L st h) := go_eq gd_P0 d 119 9 L st h
theorem s119_0 (d : Nat) (h : gd_H) (v0 : Nat) (v1 : Int32) : go gd_P0 d 119 0 [.ref v0, .int v1] [] h =
    if 4 ≤ v0 then go gd_P0 d 119 4 [.ref v0, .int v1] [] h else none :=
  (x119_0 ..).trans ((x119_1 ..).trans ((gs_if ..).trans ((ia9 (by simp)).trans (ic9 (rfl) rfl))))
theorem s119_4 (d : Nat) (h : gd_H) (v0 : Nat) (v1 : Int32) : go gd_P0 d 119 4 [.ref v0, .int v1] [] h =
    if gT h v0 = 14 then some (.inl none, (wI h (up1 (gI h) v0 0 v1))) else none :=
  (x119_4 ..).trans ((x119_5 ..).trans ((x119_6 ..).trans ((gs_if ..).trans (ic9 ((x119_9 ..)) rfl))))
theorem r119 (d : Nat) (h : gd_H) (v0 : Nat) (v1 : Int32) : run gd_P0 (d + 1) 119 [.ref v0, .int v1] h = go gd_P0 d 119 0 [.ref v0, .int v1] [] h := run_succ gd_P0 d 119 [.ref v0, .int v1] h (Nat.le_of_ble_eq_true rfl)
theorem x120_0 (d : Nat) (L st : List Value) (h : gd_H) : go gd_P0 d 120 0 L st h = gs gd_P0 d 120 0 L (i_ald 0 1 L st h) := go_eq gd_P0 d 120 0 L st h
theorem x120_1 (d : Nat) (L st : List Value) (h : gd_H) : go gd_P0 d 120 1 L st h = gs gd_P0 d 120 1 L (i_getI 14 0 4 L st h) := go_eq gd_P0 d 120 1 L st h
theorem x120_4 (d : Nat) (L st : List Value) (h : gd_H) : go gd_P0 d 120 4 L st h = gs gd_P0 d 120 4 L (i_iret L st h) := go_eq gd_P0 d 120 4 L st h
theorem s120_0 (d : Nat) (h : gd_H) (v0 : Nat) (v1 : Nat) : go gd_P0 d 120 0 [.ref v0, .ref v1] [] h =
    if gT h v0 = 14 then some (.inl (some (.int (gI h v0 0))), h) else none :=
  (x120_0 ..).trans ((x120_1 ..).trans ((gs_if ..).trans (ic9 ((x120_4 ..)) rfl)))
theorem r120 (d : Nat) (h : gd_H) (v0 : Nat) (v1 : Nat) : run gd_P0 (d + 1) 120 [.ref v0, .ref v1] h = go gd_P0 d 120 0 [.ref v0, .ref v1] [] h := run_succ gd_P0 d 120 [.ref v0, .ref v1] h (Nat.le_of_ble_eq_true rfl)
theorem x121_0 (d : Nat) (L st : List Value) (h : gd_H) : go gd_P0 d 121 0 L st h = gs gd_P0 d 121 0 L (i_ald 0 1 L st h) := go_eq gd_P0 d 121 0 L st h
theorem x121_1 (d : Nat) (L st : List Value) (h : gd_H) : go gd_P0 d 121 1 L st h = gs gd_P0 d 121 1 L (i_oin 4 L st h) := go_eq gd_P0 d 121 1 L st h
theorem x121_4 (d : Nat) (L st : List Value) (h : gd_H) : go gd_P0 d 121 4 L st h = gs gd_P0 d 121 4 L (i_msk [true, true] (i_ald 0 5) L st h) := go_eq gd_P0 d 121 4 L st h
theorem x121_5 (d : Nat) (L st : List Value) (h : gd_H) : go gd_P0 d 121 5 L st h = gs gd_P0 d 121 5 L (i_ild 1 6 L st h) := go_eq gd_P0 d 121 5 L st h
theorem x121_6 (d : Nat) (L st : List Value) (h : gd_H) : go gd_P0 d 121 6 L st h = gs gd_P0 d 121 6 L (i_putI 15 0 9 L st h) := go_eq gd_P0 d 121 6 L st h
theorem x121_9 (d : Nat) (L st : List Value) (h : gd_H) : go gd_P0 d 121 9 L st h = gs gd_P0 d 121 9 L (i_ret L st h) := go_eq gd_P0 d 121 9 L st h
theorem s121_0 (d : Nat) (h : gd_H) (v0 : Nat) (v1 : Int32) : go gd_P0 d 121 0 [.ref v0, .int v1] [] h =
    if 4 ≤ v0 then go gd_P0 d 121 4 [.ref v0, .int v1] [] h else none :=
  (x121_0 ..).trans ((x121_1 ..).trans ((gs_if ..).trans ((ia9 (by simp)).trans (ic9 (rfl) rfl))))
theorem s121_4 (d : Nat) (h : gd_H) (v0 : Nat) (v1 : Int32) : go gd_P0 d 121 4 [.ref v0, .int v1] [] h =
    if gT h v0 = 15 then some (.inl none, (wI h (up1 (gI h) v0 0 v1))) else none :=
  (x121_4 ..).trans ((x121_5 ..).trans ((x121_6 ..).trans ((gs_if ..).trans (ic9 ((x121_9 ..)) rfl))))
theorem r121 (d : Nat) (h : gd_H) (v0 : Nat) (v1 : Int32) : run gd_P0 (d + 1) 121 [.ref v0, .int v1] h = go gd_P0 d 121 0 [.ref v0, .int v1] [] h := run_succ gd_P0 d 121 [.ref v0, .int v1] h (Nat.le_of_ble_eq_true rfl)
theorem x122_0 (d : Nat) (L st : List Value) (h : gd_H) : go gd_P0 d 122 0 L st h = gs gd_P0 d 122 0 L (i_ald 1 1 L st h) := go_eq gd_P0 d 122 0 L st h
theorem x122_1 (d : Nat) (L st : List Value) (h : gd_H) : go gd_P0 d 122 1 L st h = gs gd_P0 d 122 1 L (i_ald 0 2 L st h) := go_eq gd_P0 d 122 1 L st h
theorem x122_2 (d : Nat) (L st : List Value) (h : gd_H) : go gd_P0 d 122 2 L st h = gs gd_P0 d 122 2 L (i_getI 15 0 5 L st h) := go_eq gd_P0 d 122 2 L st h
theorem x122_5 (d : Nat) (L st : List Value) (h : gd_H) : go gd_P0 d 122 5 L st h = gs gd_P0 d 122 5 L (i_cV 170 1 5 8 L st h) := go_eq gd_P0 d 122 5 L st h
theorem x122_8 (d : Nat) (L st : List Value) (h : gd_H) : go gd_P0 d 122 8 L st h = gs gd_P0 d 122 8 L (i_msk [false, false] (i_iret) L st h) := go_eq gd_P0 d 122 8 L st h
theorem s122_0 (d : Nat) (h : gd_H) (v0 : Nat) (v1 : Nat) : go gd_P0 d 122 0 [.ref v0, .ref v1] [] h =
    if gT h v0 = 15 then if gT h v1 = 5 then gc gd_P0 d 122 5 8 [.ref v0, .ref v1] [] (run gd_P0 d 170 [.ref v1, .int (gI h v0 0)] h) else none else none :=
  (x122_0 ..).trans ((x122_1 ..).trans ((x122_2 ..).trans ((gs_if ..).trans (ic9 ((x122_5 ..).trans ((gs_if ..).trans ((ia9 (by simp)).trans (ic9 rfl rfl)))) rfl))))
theorem s122_8 (d : Nat) (h : gd_H) (w0 : Value) (w1 : Value) (z0 : Int32) : go gd_P0 d 122 8 [w0, w1] [.int z0] h =
    some (.inl (some (.int z0)), h) :=
  (x122_8 ..)
theorem r122 (d : Nat) (h : gd_H) (v0 : Nat) (v1 : Nat) : run gd_P0 (d + 1) 122 [.ref v0, .ref v1] h = go gd_P0 d 122 0 [.ref v0, .ref v1] [] h := run_succ gd_P0 d 122 [.ref v0, .ref v1] h (Nat.le_of_ble_eq_true rfl)
theorem x123_0 (d : Nat) (L st : List Value) (h : gd_H) : go gd_P0 d 123 0 L st h = gs gd_P0 d 123 0 L (i_ald 0 1 L st h) := go_eq gd_P0 d 123 0 L st h
theorem x123_1 (d : Nat) (L st : List Value) (h : gd_H) : go gd_P0 d 123 1 L st h = gs gd_P0 d 123 1 L (i_oin 4 L st h) := go_eq gd_P0 d 123 1 L st h
theorem x123_4 (d : Nat) (L st : List Value) (h : gd_H) : go gd_P0 d 123 4 L st h = gs gd_P0 d 123 4 L (i_msk [true, true, true] (i_ald 0 5) L st h) := go_eq gd_P0 d 123 4 L st h
theorem x123_5 (d : Nat) (L st : List Value) (h : gd_H) : go gd_P0 d 123 5 L st h = gs gd_P0 d 123 5 L (i_psh (.int 8) 7 L st h) := go_eq gd_P0 d 123 5 L st h
theorem x123_7 (d : Nat) (L st : List Value) (h : gd_H) : go gd_P0 d 123 7 L st h = gs gd_P0 d 123 7 L (i_newa 38 10 L st h) := go_eq gd_P0 d 123 7 L st h
theorem x123_10 (d : Nat) (L st : List Value) (h : gd_H) : go gd_P0 d 123 10 L st h = gs gd_P0 d 123 10 L (i_dup 11 L st h) := go_eq gd_P0 d 123 10 L st h
theorem x123_11 (d : Nat) (L st : List Value) (h : gd_H) : go gd_P0 d 123 11 L st h = gs gd_P0 d 123 11 L (i_psh (.int 0) 12 L st h) := go_eq gd_P0 d 123 11 L st h
theorem x123_12 (d : Nat) (L st : List Value) (h : gd_H) : go gd_P0 d 123 12 L st h = gs gd_P0 d 123 12 L (i_psh (.ref 36) 14 L st h) := go_eq gd_P0 d 123 12 L st h
theorem x123_14 (d : Nat) (L st : List Value) (h : gd_H) : go gd_P0 d 123 14 L st h = gs gd_P0 d 123 14 L (i_astS 15 L st h) := go_eq gd_P0 d 123 14 L st h
theorem x123_15 (d : Nat) (L st : List Value) (h : gd_H) : go gd_P0 d 123 15 L st h = gs gd_P0 d 123 15 L (i_dup 16 L st h) := go_eq gd_P0 d 123 15 L st h
theorem x123_16 (d : Nat) (L st : List Value) (h : gd_H) : go gd_P0 d 123 16 L st h = gs gd_P0 d 123 16 L (i_psh (.int 1) 17 L st h) := go_eq gd_P0 d 123 16 L st h
theorem x123_17 (d : Nat) (L st : List Value) (h : gd_H) : go gd_P0 d 123 17 L st h = gs gd_P0 d 123 17 L (i_psh (.ref 38) 19 L st h) := go_eq gd_P0 d 123 17 L st h
theorem x123_19 (d : Nat) (L st : List Value) (h : gd_H) : go gd_P0 d 123 19 L st h = gs gd_P0 d 123 19 L (i_astS 20 L st h) := go_eq gd_P0 d 123 19 L st h
theorem x123_20 (d : Nat) (L st : List Value) (h : gd_H) : go gd_P0 d 123 20 L st h = gs gd_P0 d 123 20 L (i_dup 21 L st h) := go_eq gd_P0 d 123 20 L st h
theorem x123_21 (d : Nat) (L st : List Value) (h : gd_H) : go gd_P0 d 123 21 L st h = gs gd_P0 d 123 21 L (i_psh (.int 2) 22 L st h) := go_eq gd_P0 d 123 21 L st h
theorem x123_22 (d : Nat) (L st : List Value) (h : gd_H) : go gd_P0 d 123 22 L st h = gs gd_P0 d 123 22 L (i_psh (.ref 40) 24 L st h) := go_eq gd_P0 d 123 22 L st h
theorem x123_24 (d : Nat) (L st : List Value) (h : gd_H) : go gd_P0 d 123 24 L st h = gs gd_P0 d 123 24 L (i_astS 25 L st h) := go_eq gd_P0 d 123 24 L st h
theorem x123_25 (d : Nat) (L st : List Value) (h : gd_H) : go gd_P0 d 123 25 L st h = gs gd_P0 d 123 25 L (i_dup 26 L st h) := go_eq gd_P0 d 123 25 L st h
theorem x123_26 (d : Nat) (L st : List Value) (h : gd_H) : go gd_P0 d 123 26 L st h = gs gd_P0 d 123 26 L (i_psh (.int 3) 27 L st h) := go_eq gd_P0 d 123 26 L st h
theorem x123_27 (d : Nat) (L st : List Value) (h : gd_H) : go gd_P0 d 123 27 L st h = gs gd_P0 d 123 27 L (i_psh (.ref 42) 29 L st h) := go_eq gd_P0 d 123 27 L st h
theorem x123_29 (d : Nat) (L st : List Value) (h : gd_H) : go gd_P0 d 123 29 L st h = gs gd_P0 d 123 29 L (i_astS 30 L st h) := go_eq gd_P0 d 123 29 L st h
theorem x123_30 (d : Nat) (L st : List Value) (h : gd_H) : go gd_P0 d 123 30 L st h = gs gd_P0 d 123 30 L (i_dup 31 L st h) := go_eq gd_P0 d 123 30 L st h
theorem x123_31 (d : Nat) (L st : List Value) (h : gd_H) : go gd_P0 d 123 31 L st h = gs gd_P0 d 123 31 L (i_psh (.int 4) 32 L st h) := go_eq gd_P0 d 123 31 L st h
theorem x123_32 (d : Nat) (L st : List Value) (h : gd_H) : go gd_P0 d 123 32 L st h = gs gd_P0 d 123 32 L (i_psh (.ref 44) 34 L st h) := go_eq gd_P0 d 123 32 L st h
theorem x123_34 (d : Nat) (L st : List Value) (h : gd_H) : go gd_P0 d 123 34 L st h = gs gd_P0 d 123 34 L (i_astS 35 L st h) := go_eq gd_P0 d 123 34 L st h
theorem x123_35 (d : Nat) (L st : List Value) (h : gd_H) : go gd_P0 d 123 35 L st h = gs gd_P0 d 123 35 L (i_dup 36 L st h) := go_eq gd_P0 d 123 35 L st h
theorem x123_36 (d : Nat) (L st : List Value) (h : gd_H) : go gd_P0 d 123 36 L st h = gs gd_P0 d 123 36 L (i_psh (.int 5) 37 L st h) := go_eq gd_P0 d 123 36 L st h
theorem x123_37 (d : Nat) (L st : List Value) (h : gd_H) : go gd_P0 d 123 37 L st h = gs gd_P0 d 123 37 L (i_psh (.ref 46) 39 L st h) := go_eq gd_P0 d 123 37 L st h
theorem x123_39 (d : Nat) (L st : List Value) (h : gd_H) : go gd_P0 d 123 39 L st h = gs gd_P0 d 123 39 L (i_astS 40 L st h) := go_eq gd_P0 d 123 39 L st h
theorem x123_40 (d : Nat) (L st : List Value) (h : gd_H) : go gd_P0 d 123 40 L st h = gs gd_P0 d 123 40 L (i_dup 41 L st h) := go_eq gd_P0 d 123 40 L st h
theorem x123_41 (d : Nat) (L st : List Value) (h : gd_H) : go gd_P0 d 123 41 L st h = gs gd_P0 d 123 41 L (i_psh (.int 6) 43 L st h) := go_eq gd_P0 d 123 41 L st h
theorem x123_43 (d : Nat) (L st : List Value) (h : gd_H) : go gd_P0 d 123 43 L st h = gs gd_P0 d 123 43 L (i_psh (.ref 48) 45 L st h) := go_eq gd_P0 d 123 43 L st h
theorem x123_45 (d : Nat) (L st : List Value) (h : gd_H) : go gd_P0 d 123 45 L st h = gs gd_P0 d 123 45 L (i_astS 46 L st h) := go_eq gd_P0 d 123 45 L st h
theorem x123_46 (d : Nat) (L st : List Value) (h : gd_H) : go gd_P0 d 123 46 L st h = gs gd_P0 d 123 46 L (i_dup 47 L st h) := go_eq gd_P0 d 123 46 L st h
theorem x123_47 (d : Nat) (L st : List Value) (h : gd_H) : go gd_P0 d 123 47 L st h = gs gd_P0 d 123 47 L (i_psh (.int 7) 49 L st h) := go_eq gd_P0 d 123 47 L st h
theorem x123_49 (d : Nat) (L st : List Value) (h : gd_H) : go gd_P0 d 123 49 L st h = gs gd_P0 d 123 49 L (i_psh (.ref 50) 51 L st h) := go_eq gd_P0 d 123 49 L st h
theorem x123_51 (d : Nat) (L st : List Value) (h : gd_H) : go gd_P0 d 123 51 L st h = gs gd_P0 d 123 51 L (i_astS 52 L st h) := go_eq gd_P0 d 123 51 L st h
theorem x123_52 (d : Nat) (L st : List Value) (h : gd_H) : go gd_P0 d 123 52 L st h = gs gd_P0 d 123 52 L (i_putR 16 0 55 L st h) := go_eq gd_P0 d 123 52 L st h
theorem x123_55 (d : Nat) (L st : List Value) (h : gd_H) : go gd_P0 d 123 55 L st h = gs gd_P0 d 123 55 L (i_ald 0 56 L st h) := go_eq gd_P0 d 123 55 L st h
theorem x123_56 (d : Nat) (L st : List Value) (h : gd_H) : go gd_P0 d 123 56 L st h = gs gd_P0 d 123 56 L (i_ald 1 57 L st h) := go_eq gd_P0 d 123 56 L st h
theorem x123_57 (d : Nat) (L st : List Value) (h : gd_H) : go gd_P0 d 123 57 L st h = gs gd_P0 d 123 57 L (i_putR 16 1 60 L st h) := go_eq gd_P0 d 123 57 L st h
theorem x123_60 (d : Nat) (L st : List Value) (h : gd_H) : go gd_P0 d 123 60 L st h = gs gd_P0 d 123 60 L (i_ald 0 61 L st h) := go_eq gd_P0 d 123 60 L st h
theorem x123_61 (d : Nat) (L st : List Value) (h : gd_H) : go gd_P0 d 123 61 L st h = gs gd_P0 d 123 61 L (i_ald 2 62 L st h) := go_eq gd_P0 d 123 61 L st h
theorem x123_62 (d : Nat) (L st : List Value) (h : gd_H) : go gd_P0 d 123 62 L st h = gs gd_P0 d 123 62 L (i_putR 16 2 65 L st h) := go_eq gd_P0 d 123 62 L st h
theorem x123_65 (d : Nat) (L st : List Value) (h : gd_H) : go gd_P0 d 123 65 L st h = gs gd_P0 d 123 65 L (i_ret L st h) := go_eq gd_P0 d 123 65 L st h
theorem s123_0 (d : Nat) (h : gd_H) (v0 : Nat) (v1 : Nat) (v2 : Nat) : go gd_P0 d 123 0 [.ref v0, .ref v1, .ref v2] [] h =
    if 4 ≤ v0 then go gd_P0 d 123 4 [.ref v0, .ref v1, .ref v2] [] h else none :=
  (x123_0 ..).trans ((x123_1 ..).trans ((gs_if ..).trans ((ia9 (by simp)).trans (ic9 (rfl) rfl))))
theorem s123_4 (d : Nat) (h : gd_H) (v0 : Nat) (v1 : Nat) (v2 : Nat) : go gd_P0 d 123 4 [.ref v0, .ref v1, .ref v2] [] h =
    if gT (nw h 38 (Int32.toNatClampNeg 8) (Int32.toNatClampNeg 8)) (gS h) = 38 ∧ ((gT (nw h 38 (Int32.toNatClampNeg 8) (Int32.toNatClampNeg 8)) 36 = 23 ∧ 36 < 96) ∧ ¬ ((0 : Int32) < 0 ∨ gL (nw h 38 (Int32.toNatClampNeg 8) (Int32.toNatClampNeg 8)) (gS h) ≤ Int32.toNatClampNeg (0 : Int32))) then if gT (nw h 38 (Int32.toNatClampNeg 8) (Int32.toNatClampNeg 8)) (gS h) = 38 ∧ ((gT (nw h 38 (Int32.toNatClampNeg 8) (Int32.toNatClampNeg 8)) 38 = 23 ∧ 38 < 96) ∧ ¬ ((1 : Int32) < 0 ∨ gL (nw h 38 (Int32.toNatClampNeg 8) (Int32.toNatClampNeg 8)) (gS h) ≤ Int32.toNatClampNeg (1 : Int32))) then if gT (nw h 38 (Int32.toNatClampNeg 8) (Int32.toNatClampNeg 8)) (gS h) = 38 ∧ ((gT (nw h 38 (Int32.toNatClampNeg 8) (Int32.toNatClampNeg 8)) 40 = 23 ∧ 40 < 96) ∧ ¬ ((2 : Int32) < 0 ∨ gL (nw h 38 (Int32.toNatClampNeg 8) (Int32.toNatClampNeg 8)) (gS h) ≤ Int32.toNatClampNeg (2 : Int32))) then if gT (nw h 38 (Int32.toNatClampNeg 8) (Int32.toNatClampNeg 8)) (gS h) = 38 ∧ ((gT (nw h 38 (Int32.toNatClampNeg 8) (Int32.toNatClampNeg 8)) 42 = 23 ∧ 42 < 96) ∧ ¬ ((3 : Int32) < 0 ∨ gL (nw h 38 (Int32.toNatClampNeg 8) (Int32.toNatClampNeg 8)) (gS h) ≤ Int32.toNatClampNeg (3 : Int32))) then if gT (nw h 38 (Int32.toNatClampNeg 8) (Int32.toNatClampNeg 8)) (gS h) = 38 ∧ ((gT (nw h 38 (Int32.toNatClampNeg 8) (Int32.toNatClampNeg 8)) 44 = 23 ∧ 44 < 96) ∧ ¬ ((4 : Int32) < 0 ∨ gL (nw h 38 (Int32.toNatClampNeg 8) (Int32.toNatClampNeg 8)) (gS h) ≤ Int32.toNatClampNeg (4 : Int32))) then if gT (nw h 38 (Int32.toNatClampNeg 8) (Int32.toNatClampNeg 8)) (gS h) = 38 ∧ ((gT (nw h 38 (Int32.toNatClampNeg 8) (Int32.toNatClampNeg 8)) 46 = 23 ∧ 46 < 96) ∧ ¬ ((5 : Int32) < 0 ∨ gL (nw h 38 (Int32.toNatClampNeg 8) (Int32.toNatClampNeg 8)) (gS h) ≤ Int32.toNatClampNeg (5 : Int32))) then if gT (nw h 38 (Int32.toNatClampNeg 8) (Int32.toNatClampNeg 8)) (gS h) = 38 ∧ ((gT (nw h 38 (Int32.toNatClampNeg 8) (Int32.toNatClampNeg 8)) 48 = 23 ∧ 48 < 96) ∧ ¬ ((6 : Int32) < 0 ∨ gL (nw h 38 (Int32.toNatClampNeg 8) (Int32.toNatClampNeg 8)) (gS h) ≤ Int32.toNatClampNeg (6 : Int32))) then if gT (nw h 38 (Int32.toNatClampNeg 8) (Int32.toNatClampNeg 8)) (gS h) = 38 ∧ ((gT (nw h 38 (Int32.toNatClampNeg 8) (Int32.toNatClampNeg 8)) 50 = 23 ∧ 50 < 96) ∧ ¬ ((7 : Int32) < 0 ∨ gL (nw h 38 (Int32.toNatClampNeg 8) (Int32.toNatClampNeg 8)) (gS h) ≤ Int32.toNatClampNeg (7 : Int32))) then if gT (nw h 38 (Int32.toNatClampNeg 8) (Int32.toNatClampNeg 8)) v0 = 16 then if gT (nw h 38 (Int32.toNatClampNeg 8) (Int32.toNatClampNeg 8)) v0 = 16 then if gT (nw h 38 (Int32.toNatClampNeg 8) (Int32.toNatClampNeg 8)) v0 = 16 then some (.inl none, (wR (nw h 38 (Int32.toNatClampNeg 8) (Int32.toNatClampNeg 8)) (up1 (up1 (up1 (up1 (up1 (up1 (up1 (up1 (up1 (up1 (up1 (gR (nw h 38 (Int32.toNatClampNeg 8) (Int32.toNatClampNeg 8))) (gS h) (Int32.toNatClampNeg (0 : Int32)) 36) (gS h) (Int32.toNatClampNeg (1 : Int32)) 38) (gS h) (Int32.toNatClampNeg (2 : Int32)) 40) (gS h) (Int32.toNatClampNeg (3 : Int32)) 42) (gS h) (Int32.toNatClampNeg (4 : Int32)) 44) (gS h) (Int32.toNatClampNeg (5 : Int32)) 46) (gS h) (Int32.toNatClampNeg (6 : Int32)) 48) (gS h) (Int32.toNatClampNeg (7 : Int32)) 50) v0 0 (gS h)) v0 1 v1) v0 2 v2))) else none else none else none else none else none else none else none else none else none else none else none :=
  (x123_4 ..).trans ((x123_5 ..).trans ((x123_7 ..).trans ((x123_10 ..).trans ((x123_11 ..).trans ((x123_12 ..).trans ((x123_14 ..).trans ((gs_if ..).trans (ic9 ((x123_15 ..).trans ((x123_16 ..).trans ((x123_17 ..).trans ((x123_19 ..).trans ((gs_if ..).trans (ic9 ((x123_20 ..).trans ((x123_21 ..).trans ((x123_22 ..).trans ((x123_24 ..).trans ((gs_if ..).trans (ic9 ((x123_25 ..).trans ((x123_26 ..).trans ((x123_27 ..).trans ((x123_29 ..).trans ((gs_if ..).trans (ic9 ((x123_30 ..).trans ((x123_31 ..).trans ((x123_32 ..).trans ((x123_34 ..).trans ((gs_if ..).trans (ic9 ((x123_35 ..).trans ((x123_36 ..).trans ((x123_37 ..).trans ((x123_39 ..).trans ((gs_if ..).trans (ic9 ((x123_40 ..).trans ((x123_41 ..).trans ((x123_43 ..).trans ((x123_45 ..).trans ((gs_if ..).trans (ic9 ((x123_46 ..).trans ((x123_47 ..).trans ((x123_49 ..).trans ((x123_51 ..).trans ((gs_if ..).trans (ic9 ((x123_52 ..).trans ((gs_if ..).trans (ic9 ((x123_55 ..).trans ((x123_56 ..).trans ((x123_57 ..).trans ((gs_if ..).trans (ic9 ((x123_60 ..).trans ((x123_61 ..).trans ((x123_62 ..).trans ((gs_if ..).trans (ic9 ((x123_65 ..)) rfl))))) rfl))))) rfl))) rfl)))))) rfl)))))) rfl)))))) rfl)))))) rfl)))))) rfl)))))) rfl)))))) rfl))))))))
theorem r123 (d : Nat) (h : gd_H) (v0 : Nat) (v1 : Nat) (v2 : Nat) : run gd_P0 (d + 1) 123 [.ref v0, .ref v1, .ref v2] h = go gd_P0 d 123 0 [.ref v0, .ref v1, .ref v2] [] h := run_succ gd_P0 d 123 [.ref v0, .ref v1, .ref v2] h (Nat.le_of_ble_eq_true rfl)
theorem x124_0 (d : Nat) (L st : List Value) (h : gd_H) : go gd_P0 d 124 0 L st h = gs gd_P0 d 124 0 L (i_new 18 3 3 L st h) := go_eq gd_P0 d 124 0 L st h
theorem x124_3 (d : Nat) (L st : List Value) (h : gd_H) : go gd_P0 d 124 3 L st h = gs gd_P0 d 124 3 L (i_dup 4 L st h) := go_eq gd_P0 d 124 3 L st h
theorem x124_4 (d : Nat) (L st : List Value) (h : gd_H) : go gd_P0 d 124 4 L st h = gs gd_P0 d 124 4 L (i_psh (.int 1) 5 L st h) := go_eq gd_P0 d 124 4 L st h
theorem x124_5 (d : Nat) (L st : List Value) (h : gd_H) : go gd_P0 d 124 5 L st h = gs gd_P0 d 124 5 L (i_cV 129 1 18 8 L st h) := go_eq gd_P0 d 124 5 L st h
theorem x124_8 (d : Nat) (L st : List Value) (h : gd_H) : go gd_P0 d 124 8 L st h = gs gd_P0 d 124 8 L (i_msk [true, false] (i_ast 1 9) L st h) := go_eq gd_P0 d 124 8 L st h
theorem x124_9 (d : Nat) (L st : List Value) (h : gd_H) : go gd_P0 d 124 9 L st h = gs gd_P0 d 124 9 L (i_msk [true, true] (i_ald 0 10) L st h) := go_eq gd_P0 d 124 9 L st h
theorem x124_10 (d : Nat) (L st : List Value) (h : gd_H) : go gd_P0 d 124 10 L st h = gs gd_P0 d 124 10 L (i_getR 16 1 13 L st h) := go_eq gd_P0 d 124 10 L st h
theorem x124_13 (d : Nat) (L st : List Value) (h : gd_H) : go gd_P0 d 124 13 L st h = gs gd_P0 d 124 13 L (i_cV 97 0 10 16 L st h) := go_eq gd_P0 d 124 13 L st h
theorem x124_16 (d : Nat) (L st : List Value) (h : gd_H) : go gd_P0 d 124 16 L st h = gs gd_P0 d 124 16 L (i_msk [true, true] (i_psh (.int (-1)) 17) L st h) := go_eq gd_P0 d 124 16 L st h
theorem x124_17 (d : Nat) (L st : List Value) (h : gd_H) : go gd_P0 d 124 17 L st h = gs gd_P0 d 124 17 L (i_iceq 31 20 L st h) := go_eq gd_P0 d 124 17 L st h
theorem x124_20 (d : Nat) (L st : List Value) (h : gd_H) : go gd_P0 d 124 20 L st h = gs gd_P0 d 124 20 L (i_ald 1 21 L st h) := go_eq gd_P0 d 124 20 L st h
theorem x124_21 (d : Nat) (L st : List Value) (h : gd_H) : go gd_P0 d 124 21 L st h = gs gd_P0 d 124 21 L (i_ald 0 22 L st h) := go_eq gd_P0 d 124 21 L st h
theorem x124_22 (d : Nat) (L st : List Value) (h : gd_H) : go gd_P0 d 124 22 L st h = gs gd_P0 d 124 22 L (i_cV 125 0 16 25 L st h) := go_eq gd_P0 d 124 22 L st h
theorem x124_25 (d : Nat) (L st : List Value) (h : gd_H) : go gd_P0 d 124 25 L st h = gs gd_P0 d 124 25 L (i_msk [true, true] (i_cV 130 1 18 28) L st h) := go_eq gd_P0 d 124 25 L st h
theorem x124_28 (d : Nat) (L st : List Value) (h : gd_H) : go gd_P0 d 124 28 L st h = gs gd_P0 d 124 28 L (i_msk [true, true] (i_goto 9) L st h) := go_eq gd_P0 d 124 28 L st h
theorem x124_31 (d : Nat) (L st : List Value) (h : gd_H) : go gd_P0 d 124 31 L st h = gs gd_P0 d 124 31 L (i_ald 1 32 L st h) := go_eq gd_P0 d 124 31 L st h
theorem x124_32 (d : Nat) (L st : List Value) (h : gd_H) : go gd_P0 d 124 32 L st h = gs gd_P0 d 124 32 L (i_aret L st h) := go_eq gd_P0 d 124 32 L st h
theorem s124_0 (d : Nat) (h : gd_H) (v0 : Nat) : go gd_P0 d 124 0 [.ref v0, .null] [] h =
    if gT (nw h 18 0 3) (gS h) = 18 then gc gd_P0 d 124 5 8 [.ref v0, .null] [.ref (gS h)] (run gd_P0 d 129 [.ref (gS h), .int 1] (nw h 18 0 3)) else none :=
  (x124_0 ..).trans ((x124_3 ..).trans ((x124_4 ..).trans ((x124_5 ..).trans ((gs_if ..).trans ((ia9 (by simp)).trans (ic9 rfl rfl))))))
theorem s124_8 (d : Nat) (h : gd_H) (v0 : Nat) (w1 : Value) (z0 : Nat) : go gd_P0 d 124 8 [.ref v0, w1] [.ref z0] h =
    go gd_P0 d 124 9 [.ref v0, .ref z0] [] h :=
  (x124_8 ..)
theorem s124_9 (d : Nat) (h : gd_H) (v0 : Nat) (v1 : Nat) : go gd_P0 d 124 9 [.ref v0, .ref v1] [] h =
    if gT h v0 = 16 then if gT h (gR h v0 1) = 10 then gc gd_P0 d 124 13 16 [.ref v0, .ref v1] [] (run gd_P0 d 97 [.ref (gR h v0 1)] h) else none else none :=
  (x124_9 ..).trans ((x124_10 ..).trans ((gs_if ..).trans (ic9 ((x124_13 ..).trans ((gs_if ..).trans ((ia9 (by simp)).trans (ic9 rfl rfl)))) rfl)))
theorem s124_16 (d : Nat) (h : gd_H) (v0 : Nat) (v1 : Nat) (z0 : Int32) : go gd_P0 d 124 16 [.ref v0, .ref v1] [.int z0] h =
    if z0 = (-1) then some (.inl (some (.ref v1)), h) else if gT h v0 = 16 then gc gd_P0 d 124 22 25 [.ref v0, .ref v1] [.ref v1] (run gd_P0 d 125 [.ref v0] h) else none :=
  (x124_16 ..).trans ((x124_17 ..).trans ((gs_if ..).trans (ic9 ((x124_31 ..).trans ((x124_32 ..))) ((x124_20 ..).trans ((x124_21 ..).trans ((x124_22 ..).trans ((gs_if ..).trans ((ia9 (by simp)).trans (ic9 rfl rfl)))))))))
theorem s124_25 (d : Nat) (h : gd_H) (v0 : Nat) (v1 : Nat) (z0 : Nat) (z1 : Nat) : go gd_P0 d 124 25 [.ref v0, .ref v1] [.ref z0, .ref z1] h =
    if gT h z1 = 18 then gc gd_P0 d 124 25 28 [.ref v0, .ref v1] [] (run gd_P0 d 130 [.ref z1, .ref z0] h) else none :=
  (x124_25 ..).trans ((gs_nif ..).trans ((ia9 (by simp)).trans (ic9 rfl rfl)))
theorem s124_28 (d : Nat) (h : gd_H) (v0 : Nat) (v1 : Nat) : go gd_P0 d 124 28 [.ref v0, .ref v1] [] h =
    go gd_P0 d 124 9 [.ref v0, .ref v1] [] h :=
  (x124_28 ..)
theorem r124 (d : Nat) (h : gd_H) (v0 : Nat) : run gd_P0 (d + 1) 124 [.ref v0] h = go gd_P0 d 124 0 [.ref v0, .null] [] h := run_succ gd_P0 d 124 [.ref v0] h (Nat.le_of_ble_eq_true rfl)
theorem x125_0 (d : Nat) (L st : List Value) (h : gd_H) : go gd_P0 d 125 0 L st h = gs gd_P0 d 125 0 L (i_ald 0 1 L st h) := go_eq gd_P0 d 125 0 L st h
theorem x125_1 (d : Nat) (L st : List Value) (h : gd_H) : go gd_P0 d 125 1 L st h = gs gd_P0 d 125 1 L (i_getR 16 1 4 L st h) := go_eq gd_P0 d 125 1 L st h
theorem x125_4 (d : Nat) (L st : List Value) (h : gd_H) : go gd_P0 d 125 4 L st h = gs gd_P0 d 125 4 L (i_ald 0 5 L st h) := go_eq gd_P0 d 125 4 L st h
theorem x125_5 (d : Nat) (L st : List Value) (h : gd_H) : go gd_P0 d 125 5 L st h = gs gd_P0 d 125 5 L (i_getR 16 0 8 L st h) := go_eq gd_P0 d 125 5 L st h
theorem x125_8 (d : Nat) (L st : List Value) (h : gd_H) : go gd_P0 d 125 8 L st h = gs gd_P0 d 125 8 L (i_cV 100 1 10 11 L st h) := go_eq gd_P0 d 125 8 L st h
theorem x125_11 (d : Nat) (L st : List Value) (h : gd_H) : go gd_P0 d 125 11 L st h = gs gd_P0 d 125 11 L (i_msk [true, false, false] (i_ist 1 12) L st h) := go_eq gd_P0 d 125 11 L st h
theorem x125_12 (d : Nat) (L st : List Value) (h : gd_H) : go gd_P0 d 125 12 L st h = gs gd_P0 d 125 12 L (i_ild 1 13 L st h) := go_eq gd_P0 d 125 12 L st h
theorem x125_13 (d : Nat) (L st : List Value) (h : gd_H) : go gd_P0 d 125 13 L st h = gs gd_P0 d 125 13 L (i_psh (.int (-1)) 14 L st h) := go_eq gd_P0 d 125 13 L st h
theorem x125_14 (d : Nat) (L st : List Value) (h : gd_H) : go gd_P0 d 125 14 L st h = gs gd_P0 d 125 14 L (i_icne 33 17 L st h) := go_eq gd_P0 d 125 14 L st h
theorem x125_17 (d : Nat) (L st : List Value) (h : gd_H) : go gd_P0 d 125 17 L st h = gs gd_P0 d 125 17 L (i_new 11 8 20 L st h) := go_eq gd_P0 d 125 17 L st h
theorem x125_20 (d : Nat) (L st : List Value) (h : gd_H) : go gd_P0 d 125 20 L st h = gs gd_P0 d 125 20 L (i_dup 21 L st h) := go_eq gd_P0 d 125 20 L st h
theorem x125_21 (d : Nat) (L st : List Value) (h : gd_H) : go gd_P0 d 125 21 L st h = gs gd_P0 d 125 21 L (i_psh (.int 1) 22 L st h) := go_eq gd_P0 d 125 21 L st h
theorem x125_22 (d : Nat) (L st : List Value) (h : gd_H) : go gd_P0 d 125 22 L st h = gs gd_P0 d 125 22 L (i_ald 0 23 L st h) := go_eq gd_P0 d 125 22 L st h
theorem x125_23 (d : Nat) (L st : List Value) (h : gd_H) : go gd_P0 d 125 23 L st h = gs gd_P0 d 125 23 L (i_getR 16 1 26 L st h) := go_eq gd_P0 d 125 23 L st h
theorem x125_26 (d : Nat) (L st : List Value) (h : gd_H) : go gd_P0 d 125 26 L st h = gs gd_P0 d 125 26 L (i_cV 99 0 10 29 L st h) := go_eq gd_P0 d 125 26 L st h
theorem x125_29 (d : Nat) (L st : List Value) (h : gd_H) : go gd_P0 d 125 29 L st h = gs gd_P0 d 125 29 L (i_msk [false, false, false] (i_cV 111 2 11 32) L st h) := go_eq gd_P0 d 125 29 L st h
theorem x125_32 (d : Nat) (L st : List Value) (h : gd_H) : go gd_P0 d 125 32 L st h = gs gd_P0 d 125 32 L (i_thr L st h) := go_eq gd_P0 d 125 32 L st h
theorem x125_33 (d : Nat) (L st : List Value) (h : gd_H) : go gd_P0 d 125 33 L st h = gs gd_P0 d 125 33 L (i_ild 1 34 L st h) := go_eq gd_P0 d 125 33 L st h
theorem x125_34 (d : Nat) (L st : List Value) (h : gd_H) : go gd_P0 d 125 34 L st h = gs gd_P0 d 125 34 L (i_psh (.int 7) 36 L st h) := go_eq gd_P0 d 125 34 L st h
theorem x125_36 (d : Nat) (L st : List Value) (h : gd_H) : go gd_P0 d 125 36 L st h = gs gd_P0 d 125 36 L (i_icne 46 39 L st h) := go_eq gd_P0 d 125 36 L st h
theorem x125_39 (d : Nat) (L st : List Value) (h : gd_H) : go gd_P0 d 125 39 L st h = gs gd_P0 d 125 39 L (i_ald 0 40 L st h) := go_eq gd_P0 d 125 39 L st h
theorem x125_40 (d : Nat) (L st : List Value) (h : gd_H) : go gd_P0 d 125 40 L st h = gs gd_P0 d 125 40 L (i_getR 16 1 43 L st h) := go_eq gd_P0 d 125 40 L st h
theorem x125_43 (d : Nat) (L st : List Value) (h : gd_H) : go gd_P0 d 125 43 L st h = gs gd_P0 d 125 43 L (i_cV 107 0 10 46 L st h) := go_eq gd_P0 d 125 43 L st h
theorem x125_46 (d : Nat) (L st : List Value) (h : gd_H) : go gd_P0 d 125 46 L st h = gs gd_P0 d 125 46 L (i_msk [true, true, false] (i_ald 0 47) L st h) := go_eq gd_P0 d 125 46 L st h
theorem x125_47 (d : Nat) (L st : List Value) (h : gd_H) : go gd_P0 d 125 47 L st h = gs gd_P0 d 125 47 L (i_getR 16 1 50 L st h) := go_eq gd_P0 d 125 47 L st h
theorem x125_50 (d : Nat) (L st : List Value) (h : gd_H) : go gd_P0 d 125 50 L st h = gs gd_P0 d 125 50 L (i_cV 103 0 10 53 L st h) := go_eq gd_P0 d 125 50 L st h
theorem x125_53 (d : Nat) (L st : List Value) (h : gd_H) : go gd_P0 d 125 53 L st h = gs gd_P0 d 125 53 L (i_msk [true, true, false] (i_psh (.ref 0) 54) L st h) := go_eq gd_P0 d 125 53 L st h
theorem x125_54 (d : Nat) (L st : List Value) (h : gd_H) : go gd_P0 d 125 54 L st h = gs gd_P0 d 125 54 L (i_ast 2 55 L st h) := go_eq gd_P0 d 125 54 L st h
theorem x125_55 (d : Nat) (L st : List Value) (h : gd_H) : go gd_P0 d 125 55 L st h = gs gd_P0 d 125 55 L (i_ild 1 56 L st h) := go_eq gd_P0 d 125 55 L st h
theorem x125_56 (d : Nat) (L st : List Value) (h : gd_H) : go gd_P0 d 125 56 L st h = gs gd_P0 d 125 56 L (i_sw [(0, 100), (1, 116), (2, 142), (3, 165), (4, 100), (5, 100), (6, 204)] 215 L st h) := go_eq gd_P0 d 125 56 L st h
theorem x125_100 (d : Nat) (L st : List Value) (h : gd_H) : go gd_P0 d 125 100 L st h = gs gd_P0 d 125 100 L (i_new 19 2 103 L st h) := go_eq gd_P0 d 125 100 L st h
theorem x125_103 (d : Nat) (L st : List Value) (h : gd_H) : go gd_P0 d 125 103 L st h = gs gd_P0 d 125 103 L (i_dup 104 L st h) := go_eq gd_P0 d 125 103 L st h
theorem x125_104 (d : Nat) (L st : List Value) (h : gd_H) : go gd_P0 d 125 104 L st h = gs gd_P0 d 125 104 L (i_ild 1 105 L st h) := go_eq gd_P0 d 125 104 L st h
theorem x125_105 (d : Nat) (L st : List Value) (h : gd_H) : go gd_P0 d 125 105 L st h = gs gd_P0 d 125 105 L (i_ald 0 106 L st h) := go_eq gd_P0 d 125 105 L st h
theorem x125_106 (d : Nat) (L st : List Value) (h : gd_H) : go gd_P0 d 125 106 L st h = gs gd_P0 d 125 106 L (i_cV 126 0 16 109 L st h) := go_eq gd_P0 d 125 106 L st h
theorem x125_109 (d : Nat) (L st : List Value) (h : gd_H) : go gd_P0 d 125 109 L st h = gs gd_P0 d 125 109 L (i_msk [true, false, false] (i_cV 132 2 19 112) L st h) := go_eq gd_P0 d 125 109 L st h
theorem x125_112 (d : Nat) (L st : List Value) (h : gd_H) : go gd_P0 d 125 112 L st h = gs gd_P0 d 125 112 L (i_msk [true, false, false] (i_ast 2 113) L st h) := go_eq gd_P0 d 125 112 L st h
theorem x125_113 (d : Nat) (L st : List Value) (h : gd_H) : go gd_P0 d 125 113 L st h = gs gd_P0 d 125 113 L (i_goto 220 L st h) := go_eq gd_P0 d 125 113 L st h
theorem x125_116 (d : Nat) (L st : List Value) (h : gd_H) : go gd_P0 d 125 116 L st h = gs gd_P0 d 125 116 L (i_new 20 3 119 L st h) := go_eq gd_P0 d 125 116 L st h
theorem x125_119 (d : Nat) (L st : List Value) (h : gd_H) : go gd_P0 d 125 119 L st h = gs gd_P0 d 125 119 L (i_dup 120 L st h) := go_eq gd_P0 d 125 119 L st h
theorem x125_120 (d : Nat) (L st : List Value) (h : gd_H) : go gd_P0 d 125 120 L st h = gs gd_P0 d 125 120 L (i_ild 1 121 L st h) := go_eq gd_P0 d 125 120 L st h
theorem x125_121 (d : Nat) (L st : List Value) (h : gd_H) : go gd_P0 d 125 121 L st h = gs gd_P0 d 125 121 L (i_ald 0 122 L st h) := go_eq gd_P0 d 125 121 L st h
theorem x125_122 (d : Nat) (L st : List Value) (h : gd_H) : go gd_P0 d 125 122 L st h = gs gd_P0 d 125 122 L (i_cV 126 0 16 125 L st h) := go_eq gd_P0 d 125 122 L st h
theorem x125_125 (d : Nat) (L st : List Value) (h : gd_H) : go gd_P0 d 125 125 L st h = gs gd_P0 d 125 125 L (i_msk [true, false, false] (i_ald 0 126) L st h) := go_eq gd_P0 d 125 125 L st h
theorem x125_126 (d : Nat) (L st : List Value) (h : gd_H) : go gd_P0 d 125 126 L st h = gs gd_P0 d 125 126 L (i_getR 16 1 129 L st h) := go_eq gd_P0 d 125 126 L st h
theorem x125_129 (d : Nat) (L st : List Value) (h : gd_H) : go gd_P0 d 125 129 L st h = gs gd_P0 d 125 129 L (i_psh (.int 0) 130 L st h) := go_eq gd_P0 d 125 129 L st h
theorem x125_130 (d : Nat) (L st : List Value) (h : gd_H) : go gd_P0 d 125 130 L st h = gs gd_P0 d 125 130 L (i_psh (.int 9) 132 L st h) := go_eq gd_P0 d 125 130 L st h
theorem x125_132 (d : Nat) (L st : List Value) (h : gd_H) : go gd_P0 d 125 132 L st h = gs gd_P0 d 125 132 L (i_cV 104 2 10 135 L st h) := go_eq gd_P0 d 125 132 L st h
theorem x125_135 (d : Nat) (L st : List Value) (h : gd_H) : go gd_P0 d 125 135 L st h = gs gd_P0 d 125 135 L (i_msk [true, false, false] (i_cV 136 3 20 138) L st h) := go_eq gd_P0 d 125 135 L st h
theorem x125_138 (d : Nat) (L st : List Value) (h : gd_H) : go gd_P0 d 125 138 L st h = gs gd_P0 d 125 138 L (i_msk [true, false, false] (i_ast 2 139) L st h) := go_eq gd_P0 d 125 138 L st h
theorem x125_139 (d : Nat) (L st : List Value) (h : gd_H) : go gd_P0 d 125 139 L st h = gs gd_P0 d 125 139 L (i_goto 220 L st h) := go_eq gd_P0 d 125 139 L st h
theorem x125_142 (d : Nat) (L st : List Value) (h : gd_H) : go gd_P0 d 125 142 L st h = gs gd_P0 d 125 142 L (i_new 20 3 145 L st h) := go_eq gd_P0 d 125 142 L st h
theorem x125_145 (d : Nat) (L st : List Value) (h : gd_H) : go gd_P0 d 125 145 L st h = gs gd_P0 d 125 145 L (i_dup 146 L st h) := go_eq gd_P0 d 125 145 L st h
theorem x125_146 (d : Nat) (L st : List Value) (h : gd_H) : go gd_P0 d 125 146 L st h = gs gd_P0 d 125 146 L (i_ild 1 147 L st h) := go_eq gd_P0 d 125 146 L st h
theorem x125_147 (d : Nat) (L st : List Value) (h : gd_H) : go gd_P0 d 125 147 L st h = gs gd_P0 d 125 147 L (i_psh (.int 0) 148 L st h) := go_eq gd_P0 d 125 147 L st h
theorem x125_148 (d : Nat) (L st : List Value) (h : gd_H) : go gd_P0 d 125 148 L st h = gs gd_P0 d 125 148 L (i_ald 0 149 L st h) := go_eq gd_P0 d 125 148 L st h
theorem x125_149 (d : Nat) (L st : List Value) (h : gd_H) : go gd_P0 d 125 149 L st h = gs gd_P0 d 125 149 L (i_getR 16 1 152 L st h) := go_eq gd_P0 d 125 149 L st h
theorem x125_152 (d : Nat) (L st : List Value) (h : gd_H) : go gd_P0 d 125 152 L st h = gs gd_P0 d 125 152 L (i_psh (.int 0) 153 L st h) := go_eq gd_P0 d 125 152 L st h
theorem x125_153 (d : Nat) (L st : List Value) (h : gd_H) : go gd_P0 d 125 153 L st h = gs gd_P0 d 125 153 L (i_psh (.int 9) 155 L st h) := go_eq gd_P0 d 125 153 L st h
theorem x125_155 (d : Nat) (L st : List Value) (h : gd_H) : go gd_P0 d 125 155 L st h = gs gd_P0 d 125 155 L (i_cV 104 2 10 158 L st h) := go_eq gd_P0 d 125 155 L st h
theorem x125_158 (d : Nat) (L st : List Value) (h : gd_H) : go gd_P0 d 125 158 L st h = gs gd_P0 d 125 158 L (i_msk [true, false, false] (i_cV 136 3 20 161) L st h) := go_eq gd_P0 d 125 158 L st h
theorem x125_161 (d : Nat) (L st : List Value) (h : gd_H) : go gd_P0 d 125 161 L st h = gs gd_P0 d 125 161 L (i_msk [true, false, false] (i_ast 2 162) L st h) := go_eq gd_P0 d 125 161 L st h
theorem x125_162 (d : Nat) (L st : List Value) (h : gd_H) : go gd_P0 d 125 162 L st h = gs gd_P0 d 125 162 L (i_goto 220 L st h) := go_eq gd_P0 d 125 162 L st h
theorem x125_165 (d : Nat) (L st : List Value) (h : gd_H) : go gd_P0 d 125 165 L st h = gs gd_P0 d 125 165 L (i_new 20 3 168 L st h) := go_eq gd_P0 d 125 165 L st h
theorem x125_168 (d : Nat) (L st : List Value) (h : gd_H) : go gd_P0 d 125 168 L st h = gs gd_P0 d 125 168 L (i_dup 169 L st h) := go_eq gd_P0 d 125 168 L st h
theorem x125_169 (d : Nat) (L st : List Value) (h : gd_H) : go gd_P0 d 125 169 L st h = gs gd_P0 d 125 169 L (i_ild 1 170 L st h) := go_eq gd_P0 d 125 169 L st h
theorem x125_170 (d : Nat) (L st : List Value) (h : gd_H) : go gd_P0 d 125 170 L st h = gs gd_P0 d 125 170 L (i_ald 0 171 L st h) := go_eq gd_P0 d 125 170 L st h
theorem x125_171 (d : Nat) (L st : List Value) (h : gd_H) : go gd_P0 d 125 171 L st h = gs gd_P0 d 125 171 L (i_getR 16 1 174 L st h) := go_eq gd_P0 d 125 171 L st h
theorem x125_174 (d : Nat) (L st : List Value) (h : gd_H) : go gd_P0 d 125 174 L st h = gs gd_P0 d 125 174 L (i_psh (.int 0) 175 L st h) := go_eq gd_P0 d 125 174 L st h
theorem x125_175 (d : Nat) (L st : List Value) (h : gd_H) : go gd_P0 d 125 175 L st h = gs gd_P0 d 125 175 L (i_ald 0 176 L st h) := go_eq gd_P0 d 125 175 L st h
theorem x125_176 (d : Nat) (L st : List Value) (h : gd_H) : go gd_P0 d 125 176 L st h = gs gd_P0 d 125 176 L (i_getR 16 2 179 L st h) := go_eq gd_P0 d 125 176 L st h
theorem x125_179 (d : Nat) (L st : List Value) (h : gd_H) : go gd_P0 d 125 179 L st h = gs gd_P0 d 125 179 L (i_getI 6 6 182 L st h) := go_eq gd_P0 d 125 179 L st h
theorem x125_182 (d : Nat) (L st : List Value) (h : gd_H) : go gd_P0 d 125 182 L st h = gs gd_P0 d 125 182 L (i_psh (.int 1) 183 L st h) := go_eq gd_P0 d 125 182 L st h
theorem x125_183 (d : Nat) (L st : List Value) (h : gd_H) : go gd_P0 d 125 183 L st h = gs gd_P0 d 125 183 L (i_isub 184 L st h) := go_eq gd_P0 d 125 183 L st h
theorem x125_184 (d : Nat) (L st : List Value) (h : gd_H) : go gd_P0 d 125 184 L st h = gs gd_P0 d 125 184 L (i_cV 104 2 10 187 L st h) := go_eq gd_P0 d 125 184 L st h
theorem x125_187 (d : Nat) (L st : List Value) (h : gd_H) : go gd_P0 d 125 187 L st h = gs gd_P0 d 125 187 L (i_msk [true, false, false] (i_ald 0 188) L st h) := go_eq gd_P0 d 125 187 L st h
theorem x125_188 (d : Nat) (L st : List Value) (h : gd_H) : go gd_P0 d 125 188 L st h = gs gd_P0 d 125 188 L (i_getR 16 1 191 L st h) := go_eq gd_P0 d 125 188 L st h
theorem x125_191 (d : Nat) (L st : List Value) (h : gd_H) : go gd_P0 d 125 191 L st h = gs gd_P0 d 125 191 L (i_psh (.int 1) 192 L st h) := go_eq gd_P0 d 125 191 L st h
theorem x125_192 (d : Nat) (L st : List Value) (h : gd_H) : go gd_P0 d 125 192 L st h = gs gd_P0 d 125 192 L (i_psh (.int 9) 194 L st h) := go_eq gd_P0 d 125 192 L st h
theorem x125_194 (d : Nat) (L st : List Value) (h : gd_H) : go gd_P0 d 125 194 L st h = gs gd_P0 d 125 194 L (i_cV 104 2 10 197 L st h) := go_eq gd_P0 d 125 194 L st h
theorem x125_197 (d : Nat) (L st : List Value) (h : gd_H) : go gd_P0 d 125 197 L st h = gs gd_P0 d 125 197 L (i_msk [true, false, false] (i_cV 136 3 20 200) L st h) := go_eq gd_P0 d 125 197 L st h
theorem x125_200 (d : Nat) (L st : List Value) (h : gd_H) : go gd_P0 d 125 200 L st h = gs gd_P0 d 125 200 L (i_msk [true, false, false] (i_ast 2 201) L st h) := go_eq gd_P0 d 125 200 L st h
theorem x125_201 (d : Nat) (L st : List Value) (h : gd_H) : go gd_P0 d 125 201 L st h = gs gd_P0 d 125 201 L (i_goto 220 L st h) := go_eq gd_P0 d 125 201 L st h
theorem x125_204 (d : Nat) (L st : List Value) (h : gd_H) : go gd_P0 d 125 204 L st h = gs gd_P0 d 125 204 L (i_new 21 0 207 L st h) := go_eq gd_P0 d 125 204 L st h
theorem x125_207 (d : Nat) (L st : List Value) (h : gd_H) : go gd_P0 d 125 207 L st h = gs gd_P0 d 125 207 L (i_dup 208 L st h) := go_eq gd_P0 d 125 207 L st h
theorem x125_208 (d : Nat) (L st : List Value) (h : gd_H) : go gd_P0 d 125 208 L st h = gs gd_P0 d 125 208 L (i_cV 138 0 21 211 L st h) := go_eq gd_P0 d 125 208 L st h
theorem x125_211 (d : Nat) (L st : List Value) (h : gd_H) : go gd_P0 d 125 211 L st h = gs gd_P0 d 125 211 L (i_msk [true, false, false] (i_ast 2 212) L st h) := go_eq gd_P0 d 125 211 L st h
theorem x125_212 (d : Nat) (L st : List Value) (h : gd_H) : go gd_P0 d 125 212 L st h = gs gd_P0 d 125 212 L (i_goto 220 L st h) := go_eq gd_P0 d 125 212 L st h
theorem x125_215 (d : Nat) (L st : List Value) (h : gd_H) : go gd_P0 d 125 215 L st h = gs gd_P0 d 125 215 L (i_ald 0 216 L st h) := go_eq gd_P0 d 125 215 L st h
theorem x125_216 (d : Nat) (L st : List Value) (h : gd_H) : go gd_P0 d 125 216 L st h = gs gd_P0 d 125 216 L (i_cV 127 0 16 219 L st h) := go_eq gd_P0 d 125 216 L st h
theorem x125_219 (d : Nat) (L st : List Value) (h : gd_H) : go gd_P0 d 125 219 L st h = gs gd_P0 d 125 219 L (i_msk [true, false, false] (i_ast 2 220) L st h) := go_eq gd_P0 d 125 219 L st h
theorem x125_220 (d : Nat) (L st : List Value) (h : gd_H) : go gd_P0 d 125 220 L st h = gs gd_P0 d 125 220 L (i_msk [true, false, true] (i_ald 0 221) L st h) := go_eq gd_P0 d 125 220 L st h
theorem x125_221 (d : Nat) (L st : List Value) (h : gd_H) : go gd_P0 d 125 221 L st h = gs gd_P0 d 125 221 L (i_getR 16 1 224 L st h) := go_eq gd_P0 d 125 221 L st h
theorem x125_224 (d : Nat) (L st : List Value) (h : gd_H) : go gd_P0 d 125 224 L st h = gs gd_P0 d 125 224 L (i_psh (.int 59) 226 L st h) := go_eq gd_P0 d 125 224 L st h
theorem x125_226 (d : Nat) (L st : List Value) (h : gd_H) : go gd_P0 d 125 226 L st h = gs gd_P0 d 125 226 L (i_cV 106 1 10 229 L st h) := go_eq gd_P0 d 125 226 L st h
theorem x125_229 (d : Nat) (L st : List Value) (h : gd_H) : go gd_P0 d 125 229 L st h = gs gd_P0 d 125 229 L (i_msk [false, false, true] (i_ald 2 230) L st h) := go_eq gd_P0 d 125 229 L st h
theorem x125_230 (d : Nat) (L st : List Value) (h : gd_H) : go gd_P0 d 125 230 L st h = gs gd_P0 d 125 230 L (i_aret L st h) := go_eq gd_P0 d 125 230 L st h
theorem s125_0 (d : Nat) (h : gd_H) (v0 : Nat) : go gd_P0 d 125 0 [.ref v0, .null, .null] [] h =
    if gT h v0 = 16 then if gT h v0 = 16 then if gT h (gR h v0 1) = 10 then gc gd_P0 d 125 8 11 [.ref v0, .null, .null] [] (run gd_P0 d 100 [.ref (gR h v0 1), .ref (gR h v0 0)] h) else none else none else none :=
  (x125_0 ..).trans ((x125_1 ..).trans ((gs_if ..).trans (ic9 ((x125_4 ..).trans ((x125_5 ..).trans ((gs_if ..).trans (ic9 ((x125_8 ..).trans ((gs_if ..).trans ((ia9 (by simp)).trans (ic9 rfl rfl)))) rfl)))) rfl)))
theorem s125_11 (d : Nat) (h : gd_H) (v0 : Nat) (w1 : Value) (w2 : Value) (z0 : Int32) : go gd_P0 d 125 11 [.ref v0, w1, w2] [.int z0] h =
    if z0 = (-1) then go gd_P0 d 125 20 [.ref v0, .int z0, .null] [.ref (gS h)] (nw h 11 0 8) else if z0 = 7 then if gT h v0 = 16 then if gT h (gR h v0 1) = 10 then gc gd_P0 d 125 43 46 [.ref v0, .int z0, .null] [] (run gd_P0 d 107 [.ref (gR h v0 1)] h) else none else none else go gd_P0 d 125 46 [.ref v0, .int z0, .null] [] h :=
  (x125_11 ..).trans ((x125_12 ..).trans ((x125_13 ..).trans ((x125_14 ..).trans ((gs_if ..).trans (ic9 ((x125_17 ..)) ((x125_33 ..).trans ((x125_34 ..).trans ((x125_36 ..).trans ((gs_if ..).trans (ic9 ((x125_39 ..).trans ((x125_40 ..).trans ((gs_if ..).trans (ic9 ((x125_43 ..).trans ((gs_if ..).trans ((ia9 (by simp)).trans (ic9 rfl rfl)))) rfl)))) (rfl)))))))))))
theorem s125_20 (d : Nat) (h : gd_H) (v0 : Nat) (w1 : Value) (w2 : Value) (z0 : Nat) : go gd_P0 d 125 20 [.ref v0, w1, w2] [.ref z0] h =
    if gT h v0 = 16 then if gT h (gR h v0 1) = 10 then gc gd_P0 d 125 26 29 [.ref v0, w1, w2] [.int 1, .ref z0, .ref z0] (run gd_P0 d 99 [.ref (gR h v0 1)] h) else none else none :=
  (x125_20 ..).trans ((x125_21 ..).trans ((x125_22 ..).trans ((x125_23 ..).trans ((gs_if ..).trans (ic9 ((x125_26 ..).trans ((gs_if ..).trans ((ia9 (by simp)).trans (ic9 rfl rfl)))) rfl)))))
theorem s125_29 (d : Nat) (h : gd_H) (w0 : Value) (w1 : Value) (w2 : Value) (z0 : Int32) (z1 : Int32) (z2 : Nat) (z3 : Nat) : go gd_P0 d 125 29 [w0, w1, w2] [.int z0, .int z1, .ref z2, .ref z3] h =
    if gT h z2 = 11 then gc gd_P0 d 125 29 32 [.null, .null, .null] [.ref z3] (run gd_P0 d 111 [.ref z2, .int z1, .int z0] h) else none :=
  (x125_29 ..).trans ((gs_nif ..).trans ((ia9 (by simp)).trans (ic9 rfl rfl)))
theorem s125_32 (d : Nat) (h : gd_H) (w0 : Value) (w1 : Value) (w2 : Value) (z0 : Nat) : go gd_P0 d 125 32 [w0, w1, w2] [.ref z0] h =
    if 4 ≤ z0 then gx gd_P0 d 125 32 [w0, w1, w2] z0 h else none :=
  (x125_32 ..).trans ((gs_if ..).trans (ic9 rfl rfl))
theorem s125_46 (d : Nat) (h : gd_H) (v0 : Nat) (v1 : Int32) (w2 : Value) : go gd_P0 d 125 46 [.ref v0, .int v1, w2] [] h =
    if gT h v0 = 16 then if gT h (gR h v0 1) = 10 then gc gd_P0 d 125 50 53 [.ref v0, .int v1, .null] [] (run gd_P0 d 103 [.ref (gR h v0 1)] h) else none else none :=
  (x125_46 ..).trans ((x125_47 ..).trans ((gs_if ..).trans (ic9 ((x125_50 ..).trans ((gs_if ..).trans ((ia9 (by simp)).trans (ic9 rfl rfl)))) rfl)))
theorem s125_53 (d : Nat) (h : gd_H) (v0 : Nat) (v1 : Int32) (w2 : Value) : go gd_P0 d 125 53 [.ref v0, .int v1, w2] [] h =
    if v1 = 0 then go gd_P0 d 125 103 [.ref v0, .int v1, .ref 0] [.ref (gS h)] (nw h 19 0 2) else if v1 = 1 then go gd_P0 d 125 119 [.ref v0, .int v1, .ref 0] [.ref (gS h)] (nw h 20 0 3) else if v1 = 2 then go gd_P0 d 125 145 [.ref v0, .int v1, .ref 0] [.ref (gS h)] (nw h 20 0 3) else if v1 = 3 then go gd_P0 d 125 168 [.ref v0, .int v1, .ref 0] [.ref (gS h)] (nw h 20 0 3) else if v1 = 4 then go gd_P0 d 125 103 [.ref v0, .int v1, .ref 0] [.ref (gS h)] (nw h 19 0 2) else if v1 = 5 then go gd_P0 d 125 103 [.ref v0, .int v1, .ref 0] [.ref (gS h)] (nw h 19 0 2) else if v1 = 6 then go gd_P0 d 125 207 [.ref v0, .int v1, .ref 0] [.ref (gS h)] (nw h 21 0 0) else if gT h v0 = 16 then gc gd_P0 d 125 216 219 [.ref v0, .int v1, .ref 0] [] (run gd_P0 d 127 [.ref v0] h) else none :=
  (x125_53 ..).trans ((x125_54 ..).trans ((x125_55 ..).trans ((x125_56 ..).trans ((go_if ..).trans (ic9 ((x125_100 ..)) ((go_if ..).trans (ic9 ((x125_116 ..)) ((go_if ..).trans (ic9 ((x125_142 ..)) ((go_if ..).trans (ic9 ((x125_165 ..)) ((go_if ..).trans (ic9 ((x125_100 ..)) ((go_if ..).trans (ic9 ((x125_100 ..)) ((go_if ..).trans (ic9 ((x125_204 ..)) ((x125_215 ..).trans ((x125_216 ..).trans ((gs_if ..).trans ((ia9 (by simp)).trans (ic9 rfl rfl))))))))))))))))))))))
theorem s125_103 (d : Nat) (h : gd_H) (v0 : Nat) (v1 : Int32) (w2 : Value) (z0 : Nat) : go gd_P0 d 125 103 [.ref v0, .int v1, w2] [.ref z0] h =
    if gT h v0 = 16 then gc gd_P0 d 125 106 109 [.ref v0, .int v1, w2] [.int v1, .ref z0, .ref z0] (run gd_P0 d 126 [.ref v0] h) else none :=
  (x125_103 ..).trans ((x125_104 ..).trans ((x125_105 ..).trans ((x125_106 ..).trans ((gs_if ..).trans ((ia9 (by simp)).trans (ic9 rfl rfl))))))
theorem s125_109 (d : Nat) (h : gd_H) (v0 : Nat) (w1 : Value) (w2 : Value) (z0 : Int32) (z1 : Int32) (z2 : Nat) (z3 : Nat) : go gd_P0 d 125 109 [.ref v0, w1, w2] [.int z0, .int z1, .ref z2, .ref z3] h =
    if gT h z2 = 19 then gc gd_P0 d 125 109 112 [.ref v0, .null, .null] [.ref z3] (run gd_P0 d 132 [.ref z2, .int z1, .int z0] h) else none :=
  (x125_109 ..).trans ((gs_nif ..).trans ((ia9 (by simp)).trans (ic9 rfl rfl)))
theorem s125_112 (d : Nat) (h : gd_H) (v0 : Nat) (w1 : Value) (w2 : Value) (z0 : Nat) : go gd_P0 d 125 112 [.ref v0, w1, w2] [.ref z0] h =
    go gd_P0 d 125 220 [.ref v0, .null, .ref z0] [] h :=
  (x125_112 ..).trans ((x125_113 ..))
theorem s125_119 (d : Nat) (h : gd_H) (v0 : Nat) (v1 : Int32) (w2 : Value) (z0 : Nat) : go gd_P0 d 125 119 [.ref v0, .int v1, w2] [.ref z0] h =
    if gT h v0 = 16 then gc gd_P0 d 125 122 125 [.ref v0, .int v1, w2] [.int v1, .ref z0, .ref z0] (run gd_P0 d 126 [.ref v0] h) else none :=
  (x125_119 ..).trans ((x125_120 ..).trans ((x125_121 ..).trans ((x125_122 ..).trans ((gs_if ..).trans ((ia9 (by simp)).trans (ic9 rfl rfl))))))
theorem s125_125 (d : Nat) (h : gd_H) (v0 : Nat) (w1 : Value) (w2 : Value) (z0 : Int32) (z1 : Int32) (z2 : Nat) (z3 : Nat) : go gd_P0 d 125 125 [.ref v0, w1, w2] [.int z0, .int z1, .ref z2, .ref z3] h =
    if gT h v0 = 16 then if gT h (gR h v0 1) = 10 then gc gd_P0 d 125 132 135 [.ref v0, .null, .null] [.int z0, .int z1, .ref z2, .ref z3] (run gd_P0 d 104 [.ref (gR h v0 1), .int 0, .int 9] h) else none else none :=
  (x125_125 ..).trans ((x125_126 ..).trans ((gs_if ..).trans (ic9 ((x125_129 ..).trans ((x125_130 ..).trans ((x125_132 ..).trans ((gs_if ..).trans ((ia9 (by simp)).trans (ic9 rfl rfl)))))) rfl)))
theorem s125_135 (d : Nat) (h : gd_H) (v0 : Nat) (w1 : Value) (w2 : Value) (z0 : Int32) (z1 : Int32) (z2 : Int32) (z3 : Nat) (z4 : Nat) : go gd_P0 d 125 135 [.ref v0, w1, w2] [.int z0, .int z1, .int z2, .ref z3, .ref z4] h =
    if gT h z3 = 20 then gc gd_P0 d 125 135 138 [.ref v0, .null, .null] [.ref z4] (run gd_P0 d 136 [.ref z3, .int z2, .int z1, .int z0] h) else none :=
  (x125_135 ..).trans ((gs_nif ..).trans ((ia9 (by simp)).trans (ic9 rfl rfl)))
theorem s125_138 (d : Nat) (h : gd_H) (v0 : Nat) (w1 : Value) (w2 : Value) (z0 : Nat) : go gd_P0 d 125 138 [.ref v0, w1, w2] [.ref z0] h =
    go gd_P0 d 125 220 [.ref v0, .null, .ref z0] [] h :=
  (x125_138 ..).trans ((x125_139 ..))
theorem s125_145 (d : Nat) (h : gd_H) (v0 : Nat) (v1 : Int32) (w2 : Value) (z0 : Nat) : go gd_P0 d 125 145 [.ref v0, .int v1, w2] [.ref z0] h =
    if gT h v0 = 16 then if gT h (gR h v0 1) = 10 then gc gd_P0 d 125 155 158 [.ref v0, .int v1, w2] [.int 0, .int v1, .ref z0, .ref z0] (run gd_P0 d 104 [.ref (gR h v0 1), .int 0, .int 9] h) else none else none :=
  (x125_145 ..).trans ((x125_146 ..).trans ((x125_147 ..).trans ((x125_148 ..).trans ((x125_149 ..).trans ((gs_if ..).trans (ic9 ((x125_152 ..).trans ((x125_153 ..).trans ((x125_155 ..).trans ((gs_if ..).trans ((ia9 (by simp)).trans (ic9 rfl rfl)))))) rfl))))))
theorem s125_158 (d : Nat) (h : gd_H) (v0 : Nat) (w1 : Value) (w2 : Value) (z0 : Int32) (z1 : Int32) (z2 : Int32) (z3 : Nat) (z4 : Nat) : go gd_P0 d 125 158 [.ref v0, w1, w2] [.int z0, .int z1, .int z2, .ref z3, .ref z4] h =
    if gT h z3 = 20 then gc gd_P0 d 125 158 161 [.ref v0, .null, .null] [.ref z4] (run gd_P0 d 136 [.ref z3, .int z2, .int z1, .int z0] h) else none :=
  (x125_158 ..).trans ((gs_nif ..).trans ((ia9 (by simp)).trans (ic9 rfl rfl)))
theorem s125_161 (d : Nat) (h : gd_H) (v0 : Nat) (w1 : Value) (w2 : Value) (z0 : Nat) : go gd_P0 d 125 161 [.ref v0, w1, w2] [.ref z0] h =
    go gd_P0 d 125 220 [.ref v0, .null, .ref z0] [] h :=
  (x125_161 ..).trans ((x125_162 ..))
theorem s125_168 (d : Nat) (h : gd_H) (v0 : Nat) (v1 : Int32) (w2 : Value) (z0 : Nat) : go gd_P0 d 125 168 [.ref v0, .int v1, w2] [.ref z0] h =
    if gT h v0 = 16 then if gT h v0 = 16 then if gT h (gR h v0 2) = 6 then if gT h (gR h v0 1) = 10 then gc gd_P0 d 125 184 187 [.ref v0, .int v1, w2] [.int v1, .ref z0, .ref z0] (run gd_P0 d 104 [.ref (gR h v0 1), .int 0, .int ((gI h (gR h v0 2) 6) - 1)] h) else none else none else none else none :=
  (x125_168 ..).trans ((x125_169 ..).trans ((x125_170 ..).trans ((x125_171 ..).trans ((gs_if ..).trans (ic9 ((x125_174 ..).trans ((x125_175 ..).trans ((x125_176 ..).trans ((gs_if ..).trans (ic9 ((x125_179 ..).trans ((gs_if ..).trans (ic9 ((x125_182 ..).trans ((x125_183 ..).trans ((x125_184 ..).trans ((gs_if ..).trans ((ia9 (by simp)).trans (ic9 rfl rfl)))))) rfl))) rfl))))) rfl)))))
theorem s125_187 (d : Nat) (h : gd_H) (v0 : Nat) (w1 : Value) (w2 : Value) (z0 : Int32) (z1 : Int32) (z2 : Nat) (z3 : Nat) : go gd_P0 d 125 187 [.ref v0, w1, w2] [.int z0, .int z1, .ref z2, .ref z3] h =
    if gT h v0 = 16 then if gT h (gR h v0 1) = 10 then gc gd_P0 d 125 194 197 [.ref v0, .null, .null] [.int z0, .int z1, .ref z2, .ref z3] (run gd_P0 d 104 [.ref (gR h v0 1), .int 1, .int 9] h) else none else none :=
  (x125_187 ..).trans ((x125_188 ..).trans ((gs_if ..).trans (ic9 ((x125_191 ..).trans ((x125_192 ..).trans ((x125_194 ..).trans ((gs_if ..).trans ((ia9 (by simp)).trans (ic9 rfl rfl)))))) rfl)))
theorem s125_197 (d : Nat) (h : gd_H) (v0 : Nat) (w1 : Value) (w2 : Value) (z0 : Int32) (z1 : Int32) (z2 : Int32) (z3 : Nat) (z4 : Nat) : go gd_P0 d 125 197 [.ref v0, w1, w2] [.int z0, .int z1, .int z2, .ref z3, .ref z4] h =
    if gT h z3 = 20 then gc gd_P0 d 125 197 200 [.ref v0, .null, .null] [.ref z4] (run gd_P0 d 136 [.ref z3, .int z2, .int z1, .int z0] h) else none :=
  (x125_197 ..).trans ((gs_nif ..).trans ((ia9 (by simp)).trans (ic9 rfl rfl)))
theorem s125_200 (d : Nat) (h : gd_H) (v0 : Nat) (w1 : Value) (w2 : Value) (z0 : Nat) : go gd_P0 d 125 200 [.ref v0, w1, w2] [.ref z0] h =
    go gd_P0 d 125 220 [.ref v0, .null, .ref z0] [] h :=
  (x125_200 ..).trans ((x125_201 ..))
theorem s125_207 (d : Nat) (h : gd_H) (v0 : Nat) (w1 : Value) (w2 : Value) (z0 : Nat) : go gd_P0 d 125 207 [.ref v0, w1, w2] [.ref z0] h =
    if gT h z0 = 21 then gc gd_P0 d 125 208 211 [.ref v0, w1, w2] [.ref z0] (run gd_P0 d 138 [.ref z0] h) else none :=
  (x125_207 ..).trans ((x125_208 ..).trans ((gs_if ..).trans ((ia9 (by simp)).trans (ic9 rfl rfl))))
theorem s125_211 (d : Nat) (h : gd_H) (v0 : Nat) (w1 : Value) (w2 : Value) (z0 : Nat) : go gd_P0 d 125 211 [.ref v0, w1, w2] [.ref z0] h =
    go gd_P0 d 125 220 [.ref v0, .null, .ref z0] [] h :=
  (x125_211 ..).trans ((x125_212 ..))
theorem s125_219 (d : Nat) (h : gd_H) (v0 : Nat) (w1 : Value) (w2 : Value) (z0 : Nat) : go gd_P0 d 125 219 [.ref v0, w1, w2] [.ref z0] h =
    go gd_P0 d 125 220 [.ref v0, .null, .ref z0] [] h :=
  (x125_219 ..)
theorem s125_220 (d : Nat) (h : gd_H) (v0 : Nat) (w1 : Value) (v2 : Nat) : go gd_P0 d 125 220 [.ref v0, w1, .ref v2] [] h =
    if gT h v0 = 16 then if gT h (gR h v0 1) = 10 then gc gd_P0 d 125 226 229 [.ref v0, .null, .ref v2] [] (run gd_P0 d 106 [.ref (gR h v0 1), .int 59] h) else none else none :=
  (x125_220 ..).trans ((x125_221 ..).trans ((gs_if ..).trans (ic9 ((x125_224 ..).trans ((x125_226 ..).trans ((gs_if ..).trans ((ia9 (by simp)).trans (ic9 rfl rfl))))) rfl)))
theorem s125_229 (d : Nat) (h : gd_H) (w0 : Value) (w1 : Value) (v2 : Nat) : go gd_P0 d 125 229 [w0, w1, .ref v2] [] h =
    some (.inl (some (.ref v2)), h) :=
  (x125_229 ..).trans ((x125_230 ..))
theorem r125 (d : Nat) (h : gd_H) (v0 : Nat) : run gd_P0 (d + 1) 125 [.ref v0] h = go gd_P0 d 125 0 [.ref v0, .null, .null] [] h := run_succ gd_P0 d 125 [.ref v0] h (Nat.le_of_ble_eq_true rfl)
theorem x126_0 (d : Nat) (L st : List Value) (h : gd_H) : go gd_P0 d 126 0 L st h = gs gd_P0 d 126 0 L (i_ald 0 1 L st h) := go_eq gd_P0 d 126 0 L st h
theorem x126_1 (d : Nat) (L st : List Value) (h : gd_H) : go gd_P0 d 126 1 L st h = gs gd_P0 d 126 1 L (i_getR 16 1 4 L st h) := go_eq gd_P0 d 126 1 L st h
theorem x126_4 (d : Nat) (L st : List Value) (h : gd_H) : go gd_P0 d 126 4 L st h = gs gd_P0 d 126 4 L (i_psh (.int 0) 5 L st h) := go_eq gd_P0 d 126 4 L st h
theorem x126_5 (d : Nat) (L st : List Value) (h : gd_H) : go gd_P0 d 126 5 L st h = gs gd_P0 d 126 5 L (i_ald 0 6 L st h) := go_eq gd_P0 d 126 5 L st h
theorem x126_6 (d : Nat) (L st : List Value) (h : gd_H) : go gd_P0 d 126 6 L st h = gs gd_P0 d 126 6 L (i_getR 16 2 9 L st h) := go_eq gd_P0 d 126 6 L st h
theorem x126_9 (d : Nat) (L st : List Value) (h : gd_H) : go gd_P0 d 126 9 L st h = gs gd_P0 d 126 9 L (i_getI 6 7 12 L st h) := go_eq gd_P0 d 126 9 L st h
theorem x126_12 (d : Nat) (L st : List Value) (h : gd_H) : go gd_P0 d 126 12 L st h = gs gd_P0 d 126 12 L (i_psh (.int 1) 13 L st h) := go_eq gd_P0 d 126 12 L st h
theorem x126_13 (d : Nat) (L st : List Value) (h : gd_H) : go gd_P0 d 126 13 L st h = gs gd_P0 d 126 13 L (i_isub 14 L st h) := go_eq gd_P0 d 126 13 L st h
theorem x126_14 (d : Nat) (L st : List Value) (h : gd_H) : go gd_P0 d 126 14 L st h = gs gd_P0 d 126 14 L (i_cV 104 2 10 17 L st h) := go_eq gd_P0 d 126 14 L st h
theorem x126_17 (d : Nat) (L st : List Value) (h : gd_H) : go gd_P0 d 126 17 L st h = gs gd_P0 d 126 17 L (i_msk [false] (i_iret) L st h) := go_eq gd_P0 d 126 17 L st h
theorem s126_0 (d : Nat) (h : gd_H) (v0 : Nat) : go gd_P0 d 126 0 [.ref v0] [] h =
    if gT h v0 = 16 then if gT h v0 = 16 then if gT h (gR h v0 2) = 6 then if gT h (gR h v0 1) = 10 then gc gd_P0 d 126 14 17 [.ref v0] [] (run gd_P0 d 104 [.ref (gR h v0 1), .int 0, .int ((gI h (gR h v0 2) 7) - 1)] h) else none else none else none else none :=
  (x126_0 ..).trans ((x126_1 ..).trans ((gs_if ..).trans (ic9 ((x126_4 ..).trans ((x126_5 ..).trans ((x126_6 ..).trans ((gs_if ..).trans (ic9 ((x126_9 ..).trans ((gs_if ..).trans (ic9 ((x126_12 ..).trans ((x126_13 ..).trans ((x126_14 ..).trans ((gs_if ..).trans ((ia9 (by simp)).trans (ic9 rfl rfl)))))) rfl))) rfl))))) rfl)))
theorem s126_17 (d : Nat) (h : gd_H) (w0 : Value) (z0 : Int32) : go gd_P0 d 126 17 [w0] [.int z0] h =
    some (.inl (some (.int z0)), h) :=
  (x126_17 ..)
theorem r126 (d : Nat) (h : gd_H) (v0 : Nat) : run gd_P0 (d + 1) 126 [.ref v0] h = go gd_P0 d 126 0 [.ref v0] [] h := run_succ gd_P0 d 126 [.ref v0] h (Nat.le_of_ble_eq_true rfl)
theorem x127_0 (d : Nat) (L st : List Value) (h : gd_H) : go gd_P0 d 127 0 L st h = gs gd_P0 d 127 0 L (i_new 18 3 3 L st h) := go_eq gd_P0 d 127 0 L st h
theorem x127_3 (d : Nat) (L st : List Value) (h : gd_H) : go gd_P0 d 127 3 L st h = gs gd_P0 d 127 3 L (i_dup 4 L st h) := go_eq gd_P0 d 127 3 L st h
theorem x127_4 (d : Nat) (L st : List Value) (h : gd_H) : go gd_P0 d 127 4 L st h = gs gd_P0 d 127 4 L (i_ald 0 5 L st h) := go_eq gd_P0 d 127 4 L st h
theorem x127_5 (d : Nat) (L st : List Value) (h : gd_H) : go gd_P0 d 127 5 L st h = gs gd_P0 d 127 5 L (i_getR 16 1 8 L st h) := go_eq gd_P0 d 127 5 L st h
theorem x127_8 (d : Nat) (L st : List Value) (h : gd_H) : go gd_P0 d 127 8 L st h = gs gd_P0 d 127 8 L (i_psh (.int 0) 9 L st h) := go_eq gd_P0 d 127 8 L st h
theorem x127_9 (d : Nat) (L st : List Value) (h : gd_H) : go gd_P0 d 127 9 L st h = gs gd_P0 d 127 9 L (i_psh (.int 30) 11 L st h) := go_eq gd_P0 d 127 9 L st h
theorem x127_11 (d : Nat) (L st : List Value) (h : gd_H) : go gd_P0 d 127 11 L st h = gs gd_P0 d 127 11 L (i_cV 104 2 10 14 L st h) := go_eq gd_P0 d 127 11 L st h
theorem x127_14 (d : Nat) (L st : List Value) (h : gd_H) : go gd_P0 d 127 14 L st h = gs gd_P0 d 127 14 L (i_msk [true, false] (i_cV 129 1 18 17) L st h) := go_eq gd_P0 d 127 14 L st h
theorem x127_17 (d : Nat) (L st : List Value) (h : gd_H) : go gd_P0 d 127 17 L st h = gs gd_P0 d 127 17 L (i_msk [true, false] (i_ast 1 18) L st h) := go_eq gd_P0 d 127 17 L st h
theorem x127_18 (d : Nat) (L st : List Value) (h : gd_H) : go gd_P0 d 127 18 L st h = gs gd_P0 d 127 18 L (i_ald 0 19 L st h) := go_eq gd_P0 d 127 18 L st h
theorem x127_19 (d : Nat) (L st : List Value) (h : gd_H) : go gd_P0 d 127 19 L st h = gs gd_P0 d 127 19 L (i_getR 16 1 22 L st h) := go_eq gd_P0 d 127 19 L st h
theorem x127_22 (d : Nat) (L st : List Value) (h : gd_H) : go gd_P0 d 127 22 L st h = gs gd_P0 d 127 22 L (i_psh (.int 91) 24 L st h) := go_eq gd_P0 d 127 22 L st h
theorem x127_24 (d : Nat) (L st : List Value) (h : gd_H) : go gd_P0 d 127 24 L st h = gs gd_P0 d 127 24 L (i_cV 106 1 10 27 L st h) := go_eq gd_P0 d 127 24 L st h
theorem x127_27 (d : Nat) (L st : List Value) (h : gd_H) : go gd_P0 d 127 27 L st h = gs gd_P0 d 127 27 L (i_msk [true, true] (i_ald 0 28) L st h) := go_eq gd_P0 d 127 27 L st h
theorem x127_28 (d : Nat) (L st : List Value) (h : gd_H) : go gd_P0 d 127 28 L st h = gs gd_P0 d 127 28 L (i_getR 16 1 31 L st h) := go_eq gd_P0 d 127 28 L st h
theorem x127_31 (d : Nat) (L st : List Value) (h : gd_H) : go gd_P0 d 127 31 L st h = gs gd_P0 d 127 31 L (i_psh (.int 93) 33 L st h) := go_eq gd_P0 d 127 31 L st h
theorem x127_33 (d : Nat) (L st : List Value) (h : gd_H) : go gd_P0 d 127 33 L st h = gs gd_P0 d 127 33 L (i_cV 109 1 10 36 L st h) := go_eq gd_P0 d 127 33 L st h
theorem x127_36 (d : Nat) (L st : List Value) (h : gd_H) : go gd_P0 d 127 36 L st h = gs gd_P0 d 127 36 L (i_msk [true, true] (i_ifne 50 39) L st h) := go_eq gd_P0 d 127 36 L st h
theorem x127_39 (d : Nat) (L st : List Value) (h : gd_H) : go gd_P0 d 127 39 L st h = gs gd_P0 d 127 39 L (i_ald 1 40 L st h) := go_eq gd_P0 d 127 39 L st h
theorem x127_40 (d : Nat) (L st : List Value) (h : gd_H) : go gd_P0 d 127 40 L st h = gs gd_P0 d 127 40 L (i_ald 0 41 L st h) := go_eq gd_P0 d 127 40 L st h
theorem x127_41 (d : Nat) (L st : List Value) (h : gd_H) : go gd_P0 d 127 41 L st h = gs gd_P0 d 127 41 L (i_cV 125 0 16 44 L st h) := go_eq gd_P0 d 127 41 L st h
theorem x127_44 (d : Nat) (L st : List Value) (h : gd_H) : go gd_P0 d 127 44 L st h = gs gd_P0 d 127 44 L (i_msk [true, true] (i_cV 130 1 18 47) L st h) := go_eq gd_P0 d 127 44 L st h
theorem x127_47 (d : Nat) (L st : List Value) (h : gd_H) : go gd_P0 d 127 47 L st h = gs gd_P0 d 127 47 L (i_msk [true, true] (i_goto 27) L st h) := go_eq gd_P0 d 127 47 L st h
theorem x127_50 (d : Nat) (L st : List Value) (h : gd_H) : go gd_P0 d 127 50 L st h = gs gd_P0 d 127 50 L (i_ald 0 51 L st h) := go_eq gd_P0 d 127 50 L st h
theorem x127_51 (d : Nat) (L st : List Value) (h : gd_H) : go gd_P0 d 127 51 L st h = gs gd_P0 d 127 51 L (i_getR 16 1 54 L st h) := go_eq gd_P0 d 127 51 L st h
theorem x127_54 (d : Nat) (L st : List Value) (h : gd_H) : go gd_P0 d 127 54 L st h = gs gd_P0 d 127 54 L (i_cV 108 0 10 57 L st h) := go_eq gd_P0 d 127 54 L st h
theorem x127_57 (d : Nat) (L st : List Value) (h : gd_H) : go gd_P0 d 127 57 L st h = gs gd_P0 d 127 57 L (i_msk [false, true] (i_ald 1 58) L st h) := go_eq gd_P0 d 127 57 L st h
theorem x127_58 (d : Nat) (L st : List Value) (h : gd_H) : go gd_P0 d 127 58 L st h = gs gd_P0 d 127 58 L (i_aret L st h) := go_eq gd_P0 d 127 58 L st h
theorem s127_0 (d : Nat) (h : gd_H) (v0 : Nat) : go gd_P0 d 127 0 [.ref v0, .null] [] h =
    if gT (nw h 18 0 3) v0 = 16 then if gT (nw h 18 0 3) (gR (nw h 18 0 3) v0 1) = 10 then gc gd_P0 d 127 11 14 [.ref v0, .null] [.ref (gS h), .ref (gS h)] (run gd_P0 d 104 [.ref (gR (nw h 18 0 3) v0 1), .int 0, .int 30] (nw h 18 0 3)) else none else none :=
  (x127_0 ..).trans ((x127_3 ..).trans ((x127_4 ..).trans ((x127_5 ..).trans ((gs_if ..).trans (ic9 ((x127_8 ..).trans ((x127_9 ..).trans ((x127_11 ..).trans ((gs_if ..).trans ((ia9 (by simp)).trans (ic9 rfl rfl)))))) rfl)))))
theorem s127_14 (d : Nat) (h : gd_H) (v0 : Nat) (w1 : Value) (z0 : Int32) (z1 : Nat) (z2 : Nat) : go gd_P0 d 127 14 [.ref v0, w1] [.int z0, .ref z1, .ref z2] h =
    if gT h z1 = 18 then gc gd_P0 d 127 14 17 [.ref v0, .null] [.ref z2] (run gd_P0 d 129 [.ref z1, .int z0] h) else none :=
  (x127_14 ..).trans ((gs_nif ..).trans ((ia9 (by simp)).trans (ic9 rfl rfl)))
theorem s127_17 (d : Nat) (h : gd_H) (v0 : Nat) (w1 : Value) (z0 : Nat) : go gd_P0 d 127 17 [.ref v0, w1] [.ref z0] h =
    if gT h v0 = 16 then if gT h (gR h v0 1) = 10 then gc gd_P0 d 127 24 27 [.ref v0, .ref z0] [] (run gd_P0 d 106 [.ref (gR h v0 1), .int 91] h) else none else none :=
  (x127_17 ..).trans ((x127_18 ..).trans ((x127_19 ..).trans ((gs_if ..).trans (ic9 ((x127_22 ..).trans ((x127_24 ..).trans ((gs_if ..).trans ((ia9 (by simp)).trans (ic9 rfl rfl))))) rfl))))
theorem s127_27 (d : Nat) (h : gd_H) (v0 : Nat) (v1 : Nat) : go gd_P0 d 127 27 [.ref v0, .ref v1] [] h =
    if gT h v0 = 16 then if gT h (gR h v0 1) = 10 then gc gd_P0 d 127 33 36 [.ref v0, .ref v1] [] (run gd_P0 d 109 [.ref (gR h v0 1), .int 93] h) else none else none :=
  (x127_27 ..).trans ((x127_28 ..).trans ((gs_if ..).trans (ic9 ((x127_31 ..).trans ((x127_33 ..).trans ((gs_if ..).trans ((ia9 (by simp)).trans (ic9 rfl rfl))))) rfl)))
theorem s127_36 (d : Nat) (h : gd_H) (v0 : Nat) (v1 : Nat) (z0 : Int32) : go gd_P0 d 127 36 [.ref v0, .ref v1] [.int z0] h =
    if z0 = 0 then if gT h v0 = 16 then gc gd_P0 d 127 41 44 [.ref v0, .ref v1] [.ref v1] (run gd_P0 d 125 [.ref v0] h) else none else if gT h v0 = 16 then if gT h (gR h v0 1) = 10 then gc gd_P0 d 127 54 57 [.ref v0, .ref v1] [] (run gd_P0 d 108 [.ref (gR h v0 1)] h) else none else none :=
  (x127_36 ..).trans ((gs_nif ..).trans (ic9 ((x127_39 ..).trans ((x127_40 ..).trans ((x127_41 ..).trans ((gs_if ..).trans ((ia9 (by simp)).trans (ic9 rfl rfl)))))) ((x127_50 ..).trans ((x127_51 ..).trans ((gs_if ..).trans (ic9 ((x127_54 ..).trans ((gs_if ..).trans ((ia9 (by simp)).trans (ic9 rfl rfl)))) rfl))))))
theorem s127_44 (d : Nat) (h : gd_H) (v0 : Nat) (v1 : Nat) (z0 : Nat) (z1 : Nat) : go gd_P0 d 127 44 [.ref v0, .ref v1] [.ref z0, .ref z1] h =
    if gT h z1 = 18 then gc gd_P0 d 127 44 47 [.ref v0, .ref v1] [] (run gd_P0 d 130 [.ref z1, .ref z0] h) else none :=
  (x127_44 ..).trans ((gs_nif ..).trans ((ia9 (by simp)).trans (ic9 rfl rfl)))
theorem s127_47 (d : Nat) (h : gd_H) (v0 : Nat) (v1 : Nat) : go gd_P0 d 127 47 [.ref v0, .ref v1] [] h =
    go gd_P0 d 127 27 [.ref v0, .ref v1] [] h :=
  (x127_47 ..)
theorem s127_57 (d : Nat) (h : gd_H) (w0 : Value) (v1 : Nat) : go gd_P0 d 127 57 [w0, .ref v1] [] h =
    some (.inl (some (.ref v1)), h) :=
  (x127_57 ..).trans ((x127_58 ..))
theorem r127 (d : Nat) (h : gd_H) (v0 : Nat) : run gd_P0 (d + 1) 127 [.ref v0] h = go gd_P0 d 127 0 [.ref v0, .null] [] h := run_succ gd_P0 d 127 [.ref v0] h (Nat.le_of_ble_eq_true rfl)
theorem x128_0 (d : Nat) (L st : List Value) (h : gd_H) : go gd_P0 d 128 0 L st h = gs gd_P0 d 128 0 L (i_ald 0 1 L st h) := go_eq gd_P0 d 128 0 L st h
theorem x128_1 (d : Nat) (L st : List Value) (h : gd_H) : go gd_P0 d 128 1 L st h = gs gd_P0 d 128 1 L (i_oin 4 L st h) := go_eq gd_P0 d 128 1 L st h
theorem x128_4 (d : Nat) (L st : List Value) (h : gd_H) : go gd_P0 d 128 4 L st h = gs gd_P0 d 128 4 L (i_msk [false] (i_ret) L st h) := go_eq gd_P0 d 128 4 L st h
theorem s128_0 (d : Nat) (h : gd_H) (v0 : Nat) : go gd_P0 d 128 0 [.ref v0] [] h =
    if 4 ≤ v0 then go gd_P0 d 128 4 [.ref v0] [] h else none :=
  (x128_0 ..).trans ((x128_1 ..).trans ((gs_if ..).trans ((ia9 (by simp)).trans (ic9 (rfl) rfl))))
theorem s128_4 (d : Nat) (h : gd_H) (w0 : Value) : go gd_P0 d 128 4 [w0] [] h =
    some (.inl none, h) :=
  (x128_4 ..)
theorem r128 (d : Nat) (h : gd_H) (v0 : Nat) : run gd_P0 (d + 1) 128 [.ref v0] h = go gd_P0 d 128 0 [.ref v0] [] h := run_succ gd_P0 d 128 [.ref v0] h (Nat.le_of_ble_eq_true rfl)
theorem x129_0 (d : Nat) (L st : List Value) (h : gd_H) : go gd_P0 d 129 0 L st h = gs gd_P0 d 129 0 L (i_ald 0 1 L st h) := go_eq gd_P0 d 129 0 L st h
theorem x129_1 (d : Nat) (L st : List Value) (h : gd_H) : go gd_P0 d 129 1 L st h = gs gd_P0 d 129 1 L (i_cV 128 0 18 4 L st h) := go_eq gd_P0 d 129 1 L st h
theorem x129_4 (d : Nat) (L st : List Value) (h : gd_H) : go gd_P0 d 129 4 L st h = gs gd_P0 d 129 4 L (i_msk [true, true] (i_ald 0 5) L st h) := go_eq gd_P0 d 129 4 L st h
theorem x129_5 (d : Nat) (L st : List Value) (h : gd_H) : go gd_P0 d 129 5 L st h = gs gd_P0 d 129 5 L (i_psh (.int 4) 6 L st h) := go_eq gd_P0 d 129 5 L st h
theorem x129_6 (d : Nat) (L st : List Value) (h : gd_H) : go gd_P0 d 129 6 L st h = gs gd_P0 d 129 6 L (i_newa 37 9 L st h) := go_eq gd_P0 d 129 6 L st h
theorem x129_9 (d : Nat) (L st : List Value) (h : gd_H) : go gd_P0 d 129 9 L st h = gs gd_P0 d 129 9 L (i_putR 18 1 12 L st h) := go_eq gd_P0 d 129 9 L st h
theorem x129_12 (d : Nat) (L st : List Value) (h : gd_H) : go gd_P0 d 129 12 L st h = gs gd_P0 d 129 12 L (i_ald 0 13 L st h) := go_eq gd_P0 d 129 12 L st h
theorem x129_13 (d : Nat) (L st : List Value) (h : gd_H) : go gd_P0 d 129 13 L st h = gs gd_P0 d 129 13 L (i_ild 1 14 L st h) := go_eq gd_P0 d 129 13 L st h
theorem x129_14 (d : Nat) (L st : List Value) (h : gd_H) : go gd_P0 d 129 14 L st h = gs gd_P0 d 129 14 L (i_putI 18 0 17 L st h) := go_eq gd_P0 d 129 14 L st h
theorem x129_17 (d : Nat) (L st : List Value) (h : gd_H) : go gd_P0 d 129 17 L st h = gs gd_P0 d 129 17 L (i_ret L st h) := go_eq gd_P0 d 129 17 L st h
theorem s129_0 (d : Nat) (h : gd_H) (v0 : Nat) (v1 : Int32) : go gd_P0 d 129 0 [.ref v0, .int v1] [] h =
    if gT h v0 = 18 then gc gd_P0 d 129 1 4 [.ref v0, .int v1] [] (run gd_P0 d 128 [.ref v0] h) else none :=
  (x129_0 ..).trans ((x129_1 ..).trans ((gs_if ..).trans ((ia9 (by simp)).trans (ic9 rfl rfl))))
theorem s129_4 (d : Nat) (h : gd_H) (v0 : Nat) (v1 : Int32) : go gd_P0 d 129 4 [.ref v0, .int v1] [] h =
    if gT (nw h 37 (Int32.toNatClampNeg 4) (Int32.toNatClampNeg 4)) v0 = 18 then if gT (nw h 37 (Int32.toNatClampNeg 4) (Int32.toNatClampNeg 4)) v0 = 18 then some (.inl none, (wR (wI (nw h 37 (Int32.toNatClampNeg 4) (Int32.toNatClampNeg 4)) (up1 (gI (nw h 37 (Int32.toNatClampNeg 4) (Int32.toNatClampNeg 4))) v0 0 v1)) (up1 (gR (nw h 37 (Int32.toNatClampNeg 4) (Int32.toNatClampNeg 4))) v0 1 (gS h)))) else none else none :=
  (x129_4 ..).trans ((x129_5 ..).trans ((x129_6 ..).trans ((x129_9 ..).trans ((gs_if ..).trans (ic9 ((x129_12 ..).trans ((x129_13 ..).trans ((x129_14 ..).trans ((gs_if ..).trans (ic9 ((x129_17 ..)) rfl))))) rfl)))))
theorem r129 (d : Nat) (h : gd_H) (v0 : Nat) (v1 : Int32) : run gd_P0 (d + 1) 129 [.ref v0, .int v1] h = go gd_P0 d 129 0 [.ref v0, .int v1] [] h := run_succ gd_P0 d 129 [.ref v0, .int v1] h (Nat.le_of_ble_eq_true rfl)
theorem x130_0 (d : Nat) (L st : List Value) (h : gd_H) : go gd_P0 d 130 0 L st h = gs gd_P0 d 130 0 L (i_ald 0 1 L st h) := go_eq gd_P0 d 130 0 L st h
theorem x130_1 (d : Nat) (L st : List Value) (h : gd_H) : go gd_P0 d 130 1 L st h = gs gd_P0 d 130 1 L (i_getI 18 2 4 L st h) := go_eq gd_P0 d 130 1 L st h
theorem x130_4 (d : Nat) (L st : List Value) (h : gd_H) : go gd_P0 d 130 4 L st h = gs gd_P0 d 130 4 L (i_ald 0 5 L st h) := go_eq gd_P0 d 130 4 L st h
theorem x130_5 (d : Nat) (L st : List Value) (h : gd_H) : go gd_P0 d 130 5 L st h = gs gd_P0 d 130 5 L (i_getR 18 1 8 L st h) := go_eq gd_P0 d 130 5 L st h
theorem x130_8 (d : Nat) (L st : List Value) (h : gd_H) : go gd_P0 d 130 8 L st h = gs gd_P0 d 130 8 L (i_alen 37 9 L st h) := go_eq gd_P0 d 130 8 L st h
theorem x130_9 (d : Nat) (L st : List Value) (h : gd_H) : go gd_P0 d 130 9 L st h = gs gd_P0 d 130 9 L (i_icne 52 12 L st h) := go_eq gd_P0 d 130 9 L st h
theorem x130_12 (d : Nat) (L st : List Value) (h : gd_H) : go gd_P0 d 130 12 L st h = gs gd_P0 d 130 12 L (i_psh (.int 2) 13 L st h) := go_eq gd_P0 d 130 12 L st h
theorem x130_13 (d : Nat) (L st : List Value) (h : gd_H) : go gd_P0 d 130 13 L st h = gs gd_P0 d 130 13 L (i_ald 0 14 L st h) := go_eq gd_P0 d 130 13 L st h
theorem x130_14 (d : Nat) (L st : List Value) (h : gd_H) : go gd_P0 d 130 14 L st h = gs gd_P0 d 130 14 L (i_getI 18 2 17 L st h) := go_eq gd_P0 d 130 14 L st h
theorem x130_17 (d : Nat) (L st : List Value) (h : gd_H) : go gd_P0 d 130 17 L st h = gs gd_P0 d 130 17 L (i_imul 18 L st h) := go_eq gd_P0 d 130 17 L st h
theorem x130_18 (d : Nat) (L st : List Value) (h : gd_H) : go gd_P0 d 130 18 L st h = gs gd_P0 d 130 18 L (i_newa 37 21 L st h) := go_eq gd_P0 d 130 18 L st h
theorem x130_21 (d : Nat) (L st : List Value) (h : gd_H) : go gd_P0 d 130 21 L st h = gs gd_P0 d 130 21 L (i_ast 2 22 L st h) := go_eq gd_P0 d 130 21 L st h
theorem x130_22 (d : Nat) (L st : List Value) (h : gd_H) : go gd_P0 d 130 22 L st h = gs gd_P0 d 130 22 L (i_psh (.int 0) 23 L st h) := go_eq gd_P0 d 130 22 L st h
theorem x130_23 (d : Nat) (L st : List Value) (h : gd_H) : go gd_P0 d 130 23 L st h = gs gd_P0 d 130 23 L (i_ist 3 24 L st h) := go_eq gd_P0 d 130 23 L st h
theorem x130_24 (d : Nat) (L st : List Value) (h : gd_H) : go gd_P0 d 130 24 L st h = gs gd_P0 d 130 24 L (i_msk [true, true, true, true] (i_ild 3 25) L st h) := go_eq gd_P0 d 130 24 L st h
theorem x130_25 (d : Nat) (L st : List Value) (h : gd_H) : go gd_P0 d 130 25 L st h = gs gd_P0 d 130 25 L (i_ald 0 26 L st h) := go_eq gd_P0 d 130 25 L st h
theorem x130_26 (d : Nat) (L st : List Value) (h : gd_H) : go gd_P0 d 130 26 L st h = gs gd_P0 d 130 26 L (i_getI 18 2 29 L st h) := go_eq gd_P0 d 130 26 L st h
theorem x130_29 (d : Nat) (L st : List Value) (h : gd_H) : go gd_P0 d 130 29 L st h = gs gd_P0 d 130 29 L (i_icge 47 32 L st h) := go_eq gd_P0 d 130 29 L st h
theorem x130_32 (d : Nat) (L st : List Value) (h : gd_H) : go gd_P0 d 130 32 L st h = gs gd_P0 d 130 32 L (i_ald 2 33 L st h) := go_eq gd_P0 d 130 32 L st h
theorem x130_33 (d : Nat) (L st : List Value) (h : gd_H) : go gd_P0 d 130 33 L st h = gs gd_P0 d 130 33 L (i_ild 3 34 L st h) := go_eq gd_P0 d 130 33 L st h
theorem x130_34 (d : Nat) (L st : List Value) (h : gd_H) : go gd_P0 d 130 34 L st h = gs gd_P0 d 130 34 L (i_ald 0 35 L st h) := go_eq gd_P0 d 130 34 L st h
theorem x130_35 (d : Nat) (L st : List Value) (h : gd_H) : go gd_P0 d 130 35 L st h = gs gd_P0 d 130 35 L (i_getR 18 1 38 L st h) := go_eq gd_P0 d 130 35 L st h
theorem x130_38 (d : Nat) (L st : List Value) (h : gd_H) : go gd_P0 d 130 38 L st h = gs gd_P0 d 130 38 L (i_ild 3 39 L st h) := go_eq gd_P0 d 130 38 L st h
theorem x130_39 (d : Nat) (L st : List Value) (h : gd_H) : go gd_P0 d 130 39 L st h = gs gd_P0 d 130 39 L (i_aldR 37 40 L st h) := go_eq gd_P0 d 130 39 L st h
theorem x130_40 (d : Nat) (L st : List Value) (h : gd_H) : go gd_P0 d 130 40 L st h = gs gd_P0 d 130 40 L (i_astR 37 [18, 19, 20, 21] 41 L st h) := go_eq gd_P0 d 130 40 L st h
theorem x130_41 (d : Nat) (L st : List Value) (h : gd_H) : go gd_P0 d 130 41 L st h = gs gd_P0 d 130 41 L (i_inc 3 1 44 L st h) := go_eq gd_P0 d 130 41 L st h
theorem x130_44 (d : Nat) (L st : List Value) (h : gd_H) : go gd_P0 d 130 44 L st h = gs gd_P0 d 130 44 L (i_goto 24 L st h) := go_eq gd_P0 d 130 44 L st h
theorem x130_47 (d : Nat) (L st : List Value) (h : gd_H) : go gd_P0 d 130 47 L st h = gs gd_P0 d 130 47 L (i_ald 0 48 L st h) := go_eq gd_P0 d 130 47 L st h
theorem x130_48 (d : Nat) (L st : List Value) (h : gd_H) : go gd_P0 d 130 48 L st h = gs gd_P0 d 130 48 L (i_ald 2 49 L st h) := go_eq gd_P0 d 130 48 L st h
theorem x130_49 (d : Nat) (L st : List Value) (h : gd_H) : go gd_P0 d 130 49 L st h = gs gd_P0 d 130 49 L (i_putR 18 1 52 L st h) := go_eq gd_P0 d 130 49 L st h
theorem x130_52 (d : Nat) (L st : List Value) (h : gd_H) : go gd_P0 d 130 52 L st h = gs gd_P0 d 130 52 L (i_msk [true, true, false, false] (i_ald 0 53) L st h) := go_eq gd_P0 d 130 52 L st h
theorem x130_53 (d : Nat) (L st : List Value) (h : gd_H) : go gd_P0 d 130 53 L st h = gs gd_P0 d 130 53 L (i_getR 18 1 56 L st h) := go_eq gd_P0 d 130 53 L st h
theorem x130_56 (d : Nat) (L st : List Value) (h : gd_H) : go gd_P0 d 130 56 L st h = gs gd_P0 d 130 56 L (i_ald 0 57 L st h) := go_eq gd_P0 d 130 56 L st h
theorem x130_57 (d : Nat) (L st : List Value) (h : gd_H) : go gd_P0 d 130 57 L st h = gs gd_P0 d 130 57 L (i_dup 58 L st h) := go_eq gd_P0 d 130 57 L st h
theorem x130_58 (d : Nat) (L st : List Value) (h : gd_H) : go gd_P0 d 130 58 L st h = gs gd_P0 d 130 58 L (i_getI 18 2 61 L st h) := go_eq gd_P0 d 130 58 L st h
theorem x130_61 (d : Nat) (L st : List Value) (h : gd_H) : go gd_P0 d 130 61 L st h = gs gd_P0 d 130 61 L (i_dupx1 62 L st h) := go_eq gd_P0 d 130 61 L st h
theorem x130_62 (d : Nat) (L st : List Value) (h : gd_H) : go gd_P0 d 130 62 L st h = gs gd_P0 d 130 62 L (i_psh (.int 1) 63 L st h) := go_eq gd_P0 d 130 62 L st h
theorem x130_63 (d : Nat) (L st : List Value) (h : gd_H) : go gd_P0 d 130 63 L st h = gs gd_P0 d 130 63 L (i_iadd 64 L st h) := go_eq gd_P0 d 130 63 L st h
theorem x130_64 (d : Nat) (L st : List Value) (h : gd_H) : go gd_P0 d 130 64 L st h = gs gd_P0 d 130 64 L (i_putI 18 2 67 L st h) := go_eq gd_P0 d 130 64 L st h
theorem x130_67 (d : Nat) (L st : List Value) (h : gd_H) : go gd_P0 d 130 67 L st h = gs gd_P0 d 130 67 L (i_ald 1 68 L st h) := go_eq gd_P0 d 130 67 L st h
theorem x130_68 (d : Nat) (L st : List Value) (h : gd_H) : go gd_P0 d 130 68 L st h = gs gd_P0 d 130 68 L (i_astR 37 [18, 19, 20, 21] 69 L st h) := go_eq gd_P0 d 130 68 L st h
theorem x130_69 (d : Nat) (L st : List Value) (h : gd_H) : go gd_P0 d 130 69 L st h = gs gd_P0 d 130 69 L (i_ret L st h) := go_eq gd_P0 d 130 69 L st h
theorem s130_0 (d : Nat) (h : gd_H) (v0 : Nat) (v1 : Nat) : go gd_P0 d 130 0 [.ref v0, .ref v1, .null, .null] [] h =
    if gT h v0 = 18 then if gT h v0 = 18 then if gT h (gR h v0 1) = 37 then if (gI h v0 2) = (Int32.ofNat (gL h (gR h v0 1))) then if gT h v0 = 18 then if ¬ (2 * (gI h v0 2)) < 0 ∧ Int32.toNatClampNeg (2 * (gI h v0 2)) ≤ 65536 then go gd_P0 d 130 24 [.ref v0, .ref v1, .ref (gS h), .int 0] [] (nw h 37 (Int32.toNatClampNeg (2 * (gI h v0 2))) (Int32.toNatClampNeg (2 * (gI h v0 2)))) else none else none else go gd_P0 d 130 52 [.ref v0, .ref v1, .null, .null] [] h else none else none else none :=
  (x130_0 ..).trans ((x130_1 ..).trans ((gs_if ..).trans (ic9 ((x130_4 ..).trans ((x130_5 ..).trans ((gs_if ..).trans (ic9 ((x130_8 ..).trans ((gs_if ..).trans (ic9 ((x130_9 ..).trans ((gs_if ..).trans (ic9 ((x130_12 ..).trans ((x130_13 ..).trans ((x130_14 ..).trans ((gs_if ..).trans (ic9 ((x130_17 ..).trans ((x130_18 ..).trans ((gs_if ..).trans (ic9 ((x130_21 ..).trans ((x130_22 ..).trans ((x130_23 ..)))) rfl)))) rfl))))) (rfl)))) rfl))) rfl)))) rfl)))
theorem s130_24 (d : Nat) (h : gd_H) (v0 : Nat) (v1 : Nat) (v2 : Nat) (v3 : Int32) : go gd_P0 d 130 24 [.ref v0, .ref v1, .ref v2, .int v3] [] h =
    if gT h v0 = 18 then if (gI h v0 2) ≤ v3 then if gT h v0 = 18 then go gd_P0 d 130 52 [.ref v0, .ref v1, .ref v2, .int v3] [] (wR h (up1 (gR h) v0 1 v2)) else none else if gT h v0 = 18 then if gT h (gR h v0 1) = 37 ∧ ¬ (v3 < 0 ∨ gL h (gR h v0 1) ≤ Int32.toNatClampNeg v3) then if gT h v2 = 37 ∧ (gT h (gR h (gR h v0 1) (Int32.toNatClampNeg v3)) ∈ ([18, 19, 20, 21] : List Nat) ∧ ¬ (v3 < 0 ∨ gL h v2 ≤ Int32.toNatClampNeg v3)) then go gd_P0 d 130 24 [.ref v0, .ref v1, .ref v2, .int (v3 + 1)] [] (wR h (up1 (gR h) v2 (Int32.toNatClampNeg v3) (gR h (gR h v0 1) (Int32.toNatClampNeg v3)))) else none else none else none else none :=
  (x130_24 ..).trans ((x130_25 ..).trans ((x130_26 ..).trans ((gs_if ..).trans (ic9 ((x130_29 ..).trans ((gs_if ..).trans (ic9 ((x130_47 ..).trans ((x130_48 ..).trans ((x130_49 ..).trans ((gs_if ..).trans (ic9 (rfl) rfl))))) ((x130_32 ..).trans ((x130_33 ..).trans ((x130_34 ..).trans ((x130_35 ..).trans ((gs_if ..).trans (ic9 ((x130_38 ..).trans ((x130_39 ..).trans ((gs_if ..).trans (ic9 ((x130_40 ..).trans ((gs_if ..).trans (ic9 ((x130_41 ..).trans ((x130_44 ..))) rfl))) rfl)))) rfl))))))))) rfl))))
theorem s130_52 (d : Nat) (h : gd_H) (v0 : Nat) (v1 : Nat) (w2 : Value) (w3 : Value) : go gd_P0 d 130 52 [.ref v0, .ref v1, w2, w3] [] h =
    if gT h v0 = 18 then if gT h v0 = 18 then if gT h v0 = 18 then if gT h (gR h v0 1) = 37 ∧ (gT h v1 ∈ ([18, 19, 20, 21] : List Nat) ∧ ¬ ((gI h v0 2) < 0 ∨ gL h (gR h v0 1) ≤ Int32.toNatClampNeg (gI h v0 2))) then some (.inl none, (wR (wI h (up1 (gI h) v0 2 ((gI h v0 2) + 1))) (up1 (gR h) (gR h v0 1) (Int32.toNatClampNeg (gI h v0 2)) v1))) else none else none else none else none :=
  (x130_52 ..).trans ((x130_53 ..).trans ((gs_if ..).trans (ic9 ((x130_56 ..).trans ((x130_57 ..).trans ((x130_58 ..).trans ((gs_if ..).trans (ic9 ((x130_61 ..).trans ((x130_62 ..).trans ((x130_63 ..).trans ((x130_64 ..).trans ((gs_if ..).trans (ic9 ((x130_67 ..).trans ((x130_68 ..).trans ((gs_if ..).trans (ic9 ((x130_69 ..)) rfl)))) rfl)))))) rfl))))) rfl)))
theorem r130 (d : Nat) (h : gd_H) (v0 : Nat) (v1 : Nat) : run gd_P0 (d + 1) 130 [.ref v0, .ref v1] h = go gd_P0 d 130 0 [.ref v0, .ref v1, .null, .null] [] h := run_succ gd_P0 d 130 [.ref v0, .ref v1] h (Nat.le_of_ble_eq_true rfl)
theorem x131_0 (d : Nat) (L st : List Value) (h : gd_H) : go gd_P0 d 131 0 L st h = gs gd_P0 d 131 0 L (i_psh (.int 0) 1 L st h) := go_eq gd_P0 d 131 0 L st h
theorem x131_1 (d : Nat) (L st : List Value) (h : gd_H) : go gd_P0 d 131 1 L st h = gs gd_P0 d 131 1 L (i_ist 2 2 L st h) := go_eq gd_P0 d 131 1 L st h
theorem x131_2 (d : Nat) (L st : List Value) (h : gd_H) : go gd_P0 d 131 2 L st h = gs gd_P0 d 131 2 L (i_msk [true, true, true, false] (i_ild 2 3) L st h) := go_eq gd_P0 d 131 2 L st h
theorem x131_3 (d : Nat) (L st : List Value) (h : gd_H) : go gd_P0 d 131 3 L st h = gs gd_P0 d 131 3 L (i_ald 0 4 L st h) := go_eq gd_P0 d 131 3 L st h
theorem x131_4 (d : Nat) (L st : List Value) (h : gd_H) : go gd_P0 d 131 4 L st h = gs gd_P0 d 131 4 L (i_getI 18 0 7 L st h) := go_eq gd_P0 d 131 4 L st h
theorem x131_7 (d : Nat) (L st : List Value) (h : gd_H) : go gd_P0 d 131 7 L st h = gs gd_P0 d 131 7 L (i_icge 56 10 L st h) := go_eq gd_P0 d 131 7 L st h
theorem x131_10 (d : Nat) (L st : List Value) (h : gd_H) : go gd_P0 d 131 10 L st h = gs gd_P0 d 131 10 L (i_ald 1 11 L st h) := go_eq gd_P0 d 131 10 L st h
theorem x131_11 (d : Nat) (L st : List Value) (h : gd_H) : go gd_P0 d 131 11 L st h = gs gd_P0 d 131 11 L (i_cV 141 0 22 14 L st h) := go_eq gd_P0 d 131 11 L st h
theorem x131_14 (d : Nat) (L st : List Value) (h : gd_H) : go gd_P0 d 131 14 L st h = gs gd_P0 d 131 14 L (i_msk [true, true, true, false] (i_ifeq 56 17) L st h) := go_eq gd_P0 d 131 14 L st h
theorem x131_17 (d : Nat) (L st : List Value) (h : gd_H) : go gd_P0 d 131 17 L st h = gs gd_P0 d 131 17 L (i_psh (.int 0) 18 L st h) := go_eq gd_P0 d 131 17 L st h
theorem x131_18 (d : Nat) (L st : List Value) (h : gd_H) : go gd_P0 d 131 18 L st h = gs gd_P0 d 131 18 L (i_ist 3 19 L st h) := go_eq gd_P0 d 131 18 L st h
theorem x131_19 (d : Nat) (L st : List Value) (h : gd_H) : go gd_P0 d 131 19 L st h = gs gd_P0 d 131 19 L (i_msk [true, true, true, true] (i_ild 3 20) L st h) := go_eq gd_P0 d 131 19 L st h
theorem x131_20 (d : Nat) (L st : List Value) (h : gd_H) : go gd_P0 d 131 20 L st h = gs gd_P0 d 131 20 L (i_ald 0 21 L st h) := go_eq gd_P0 d 131 20 L st h
theorem x131_21 (d : Nat) (L st : List Value) (h : gd_H) : go gd_P0 d 131 21 L st h = gs gd_P0 d 131 21 L (i_getI 18 2 24 L st h) := go_eq gd_P0 d 131 21 L st h
theorem x131_24 (d : Nat) (L st : List Value) (h : gd_H) : go gd_P0 d 131 24 L st h = gs gd_P0 d 131 24 L (i_icge 50 27 L st h) := go_eq gd_P0 d 131 24 L st h
theorem x131_27 (d : Nat) (L st : List Value) (h : gd_H) : go gd_P0 d 131 27 L st h = gs gd_P0 d 131 27 L (i_ald 1 28 L st h) := go_eq gd_P0 d 131 27 L st h
theorem x131_28 (d : Nat) (L st : List Value) (h : gd_H) : go gd_P0 d 131 28 L st h = gs gd_P0 d 131 28 L (i_cV 141 0 22 31 L st h) := go_eq gd_P0 d 131 28 L st h
theorem x131_31 (d : Nat) (L st : List Value) (h : gd_H) : go gd_P0 d 131 31 L st h = gs gd_P0 d 131 31 L (i_msk [true, true, true, true] (i_ifeq 50 34) L st h) := go_eq gd_P0 d 131 31 L st h
theorem x131_34 (d : Nat) (L st : List Value) (h : gd_H) : go gd_P0 d 131 34 L st h = gs gd_P0 d 131 34 L (i_ald 1 35 L st h) := go_eq gd_P0 d 131 34 L st h
theorem x131_35 (d : Nat) (L st : List Value) (h : gd_H) : go gd_P0 d 131 35 L st h = gs gd_P0 d 131 35 L (i_ald 0 36 L st h) := go_eq gd_P0 d 131 35 L st h
theorem x131_36 (d : Nat) (L st : List Value) (h : gd_H) : go gd_P0 d 131 36 L st h = gs gd_P0 d 131 36 L (i_getR 18 1 39 L st h) := go_eq gd_P0 d 131 36 L st h
theorem x131_39 (d : Nat) (L st : List Value) (h : gd_H) : go gd_P0 d 131 39 L st h = gs gd_P0 d 131 39 L (i_ild 3 40 L st h) := go_eq gd_P0 d 131 39 L st h
theorem x131_40 (d : Nat) (L st : List Value) (h : gd_H) : go gd_P0 d 131 40 L st h = gs gd_P0 d 131 40 L (i_aldR 37 41 L st h) := go_eq gd_P0 d 131 40 L st h
theorem x131_41 (d : Nat) (L st : List Value) (h : gd_H) : go gd_P0 d 131 41 L st h = gs gd_P0 d 131 41 L (i_cV 142 1 22 44 L st h) := go_eq gd_P0 d 131 41 L st h
theorem x131_44 (d : Nat) (L st : List Value) (h : gd_H) : go gd_P0 d 131 44 L st h = gs gd_P0 d 131 44 L (i_msk [true, true, true, true] (i_inc 3 1 47) L st h) := go_eq gd_P0 d 131 44 L st h
theorem x131_47 (d : Nat) (L st : List Value) (h : gd_H) : go gd_P0 d 131 47 L st h = gs gd_P0 d 131 47 L (i_goto 19 L st h) := go_eq gd_P0 d 131 47 L st h
theorem x131_50 (d : Nat) (L st : List Value) (h : gd_H) : go gd_P0 d 131 50 L st h = gs gd_P0 d 131 50 L (i_msk [true, true, true, false] (i_inc 2 1 53) L st h) := go_eq gd_P0 d 131 50 L st h
theorem x131_53 (d : Nat) (L st : List Value) (h : gd_H) : go gd_P0 d 131 53 L st h = gs gd_P0 d 131 53 L (i_goto 2 L st h) := go_eq gd_P0 d 131 53 L st h
theorem x131_56 (d : Nat) (L st : List Value) (h : gd_H) : go gd_P0 d 131 56 L st h = gs gd_P0 d 131 56 L (i_msk [false, false, false, false] (i_ret) L st h) := go_eq gd_P0 d 131 56 L st h
theorem s131_0 (d : Nat) (h : gd_H) (v0 : Nat) (v1 : Nat) : go gd_P0 d 131 0 [.ref v0, .ref v1, .null, .null] [] h =
    go gd_P0 d 131 2 [.ref v0, .ref v1, .int 0, .null] [] h :=
  (x131_0 ..).trans ((x131_1 ..))
theorem s131_2 (d : Nat) (h : gd_H) (v0 : Nat) (v1 : Nat) (v2 : Int32) (w3 : Value) : go gd_P0 d 131 2 [.ref v0, .ref v1, .int v2, w3] [] h =
    if gT h v0 = 18 then if (gI h v0 0) ≤ v2 then go gd_P0 d 131 56 [.ref v0, .ref v1, .int v2, .null] [] h else if gT h v1 = 22 then gc gd_P0 d 131 11 14 [.ref v0, .ref v1, .int v2, .null] [] (run gd_P0 d 141 [.ref v1] h) else none else none :=
  (x131_2 ..).trans ((x131_3 ..).trans ((x131_4 ..).trans ((gs_if ..).trans (ic9 ((x131_7 ..).trans ((gs_if ..).trans (ic9 (rfl) ((x131_10 ..).trans ((x131_11 ..).trans ((gs_if ..).trans ((ia9 (by simp)).trans (ic9 rfl rfl)))))))) rfl))))
theorem s131_14 (d : Nat) (h : gd_H) (v0 : Nat) (v1 : Nat) (v2 : Int32) (w3 : Value) (z0 : Int32) : go gd_P0 d 131 14 [.ref v0, .ref v1, .int v2, w3] [.int z0] h =
    if z0 = 0 then go gd_P0 d 131 56 [.ref v0, .ref v1, .int v2, .null] [] h else go gd_P0 d 131 19 [.ref v0, .ref v1, .int v2, .int 0] [] h :=
  (x131_14 ..).trans ((gs_nif ..).trans (ic9 (rfl) ((x131_17 ..).trans ((x131_18 ..)))))
theorem s131_19 (d : Nat) (h : gd_H) (v0 : Nat) (v1 : Nat) (v2 : Int32) (v3 : Int32) : go gd_P0 d 131 19 [.ref v0, .ref v1, .int v2, .int v3] [] h =
    if gT h v0 = 18 then if (gI h v0 2) ≤ v3 then go gd_P0 d 131 50 [.ref v0, .ref v1, .int v2, .int v3] [] h else if gT h v1 = 22 then gc gd_P0 d 131 28 31 [.ref v0, .ref v1, .int v2, .int v3] [] (run gd_P0 d 141 [.ref v1] h) else none else none :=
  (x131_19 ..).trans ((x131_20 ..).trans ((x131_21 ..).trans ((gs_if ..).trans (ic9 ((x131_24 ..).trans ((gs_if ..).trans (ic9 (rfl) ((x131_27 ..).trans ((x131_28 ..).trans ((gs_if ..).trans ((ia9 (by simp)).trans (ic9 rfl rfl)))))))) rfl))))
theorem s131_31 (d : Nat) (h : gd_H) (v0 : Nat) (v1 : Nat) (v2 : Int32) (v3 : Int32) (z0 : Int32) : go gd_P0 d 131 31 [.ref v0, .ref v1, .int v2, .int v3] [.int z0] h =
    if z0 = 0 then go gd_P0 d 131 50 [.ref v0, .ref v1, .int v2, .int v3] [] h else if gT h v0 = 18 then if gT h (gR h v0 1) = 37 ∧ ¬ (v3 < 0 ∨ gL h (gR h v0 1) ≤ Int32.toNatClampNeg v3) then if gT h v1 = 22 then gc gd_P0 d 131 41 44 [.ref v0, .ref v1, .int v2, .int v3] [] (run gd_P0 d 142 [.ref v1, .ref (gR h (gR h v0 1) (Int32.toNatClampNeg v3))] h) else none else none else none :=
  (x131_31 ..).trans ((gs_nif ..).trans (ic9 (rfl) ((x131_34 ..).trans ((x131_35 ..).trans ((x131_36 ..).trans ((gs_if ..).trans (ic9 ((x131_39 ..).trans ((x131_40 ..).trans ((gs_if ..).trans (ic9 ((x131_41 ..).trans ((gs_if ..).trans ((ia9 (by simp)).trans (ic9 rfl rfl)))) rfl)))) rfl)))))))
theorem s131_44 (d : Nat) (h : gd_H) (v0 : Nat) (v1 : Nat) (v2 : Int32) (v3 : Int32) : go gd_P0 d 131 44 [.ref v0, .ref v1, .int v2, .int v3] [] h =
    go gd_P0 d 131 19 [.ref v0, .ref v1, .int v2, .int (v3 + 1)] [] h :=
  (x131_44 ..).trans ((x131_47 ..))
theorem s131_50 (d : Nat) (h : gd_H) (v0 : Nat) (v1 : Nat) (v2 : Int32) (w3 : Value) : go gd_P0 d 131 50 [.ref v0, .ref v1, .int v2, w3] [] h =
    go gd_P0 d 131 2 [.ref v0, .ref v1, .int (v2 + 1), .null] [] h :=
  (x131_50 ..).trans ((x131_53 ..))
theorem s131_56 (d : Nat) (h : gd_H) (w0 : Value) (w1 : Value) (w2 : Value) (w3 : Value) : go gd_P0 d 131 56 [w0, w1, w2, w3] [] h =
    some (.inl none, h) :=
  (x131_56 ..)
theorem r131 (d : Nat) (h : gd_H) (v0 : Nat) (v1 : Nat) : run gd_P0 (d + 1) 131 [.ref v0, .ref v1] h = go gd_P0 d 131 0 [.ref v0, .ref v1, .null, .null] [] h := run_succ gd_P0 d 131 [.ref v0, .ref v1] h (Nat.le_of_ble_eq_true rfl)
theorem x132_0 (d : Nat) (L st : List Value) (h : gd_H) : go gd_P0 d 132 0 L st h = gs gd_P0 d 132 0 L (i_ald 0 1 L st h) := go_eq gd_P0 d 132 0 L st h
theorem x132_1 (d : Nat) (L st : List Value) (h : gd_H) : go gd_P0 d 132 1 L st h = gs gd_P0 d 132 1 L (i_cV 128 0 19 4 L st h) := go_eq gd_P0 d 132 1 L st h
theorem x132_4 (d : Nat) (L st : List Value) (h : gd_H) : go gd_P0 d 132 4 L st h = gs gd_P0 d 132 4 L (i_msk [true, true, true] (i_ald 0 5) L st h) := go_eq gd_P0 d 132 4 L st h
theorem x132_5 (d : Nat) (L st : List Value) (h : gd_H) : go gd_P0 d 132 5 L st h = gs gd_P0 d 132 5 L (i_ild 1 6 L st h) := go_eq gd_P0 d 132 5 L st h
theorem x132_6 (d : Nat) (L st : List Value) (h : gd_H) : go gd_P0 d 132 6 L st h = gs gd_P0 d 132 6 L (i_putI 19 0 9 L st h) := go_eq gd_P0 d 132 6 L st h
theorem x132_9 (d : Nat) (L st : List Value) (h : gd_H) : go gd_P0 d 132 9 L st h = gs gd_P0 d 132 9 L (i_ald 0 10 L st h) := go_eq gd_P0 d 132 9 L st h
theorem x132_10 (d : Nat) (L st : List Value) (h : gd_H) : go gd_P0 d 132 10 L st h = gs gd_P0 d 132 10 L (i_ild 2 11 L st h) := go_eq gd_P0 d 132 10 L st h
theorem x132_11 (d : Nat) (L st : List Value) (h : gd_H) : go gd_P0 d 132 11 L st h = gs gd_P0 d 132 11 L (i_putI 19 1 14 L st h) := go_eq gd_P0 d 132 11 L st h
theorem x132_14 (d : Nat) (L st : List Value) (h : gd_H) : go gd_P0 d 132 14 L st h = gs gd_P0 d 132 14 L (i_ret L st h) := go_eq gd_P0 d 132 14 L st h
theorem s132_0 (d : Nat) (h : gd_H) (v0 : Nat) (v1 : Int32) (v2 : Int32) : go gd_P0 d 132 0 [.ref v0, .int v1, .int v2] [] h =
    if gT h v0 = 19 then gc gd_P0 d 132 1 4 [.ref v0, .int v1, .int v2] [] (run gd_P0 d 128 [.ref v0] h) else none :=
  (x132_0 ..).trans ((x132_1 ..).trans ((gs_if ..).trans ((ia9 (by simp)).trans (ic9 rfl rfl))))
theorem s132_4 (d : Nat) (h : gd_H) (v0 : Nat) (v1 : Int32) (v2 : Int32) : go gd_P0 d 132 4 [.ref v0, .int v1, .int v2] [] h =
    if gT h v0 = 19 then if gT h v0 = 19 then some (.inl none, (wI h (up1 (up1 (gI h) v0 0 v1) v0 1 v2))) else none else none :=
  (x132_4 ..).trans ((x132_5 ..).trans ((x132_6 ..).trans ((gs_if ..).trans (ic9 ((x132_9 ..).trans ((x132_10 ..).trans ((x132_11 ..).trans ((gs_if ..).trans (ic9 ((x132_14 ..)) rfl))))) rfl))))
theorem r132 (d : Nat) (h : gd_H) (v0 : Nat) (v1 : Int32) (v2 : Int32) : run gd_P0 (d + 1) 132 [.ref v0, .int v1, .int v2] h = go gd_P0 d 132 0 [.ref v0, .int v1, .int v2] [] h := run_succ gd_P0 d 132 [.ref v0, .int v1, .int v2] h (Nat.le_of_ble_eq_true rfl)
theorem x133_0 (d : Nat) (L st : List Value) (h : gd_H) : go gd_P0 d 133 0 L st h = gs gd_P0 d 133 0 L (i_ald 1 1 L st h) := go_eq gd_P0 d 133 0 L st h
theorem x133_1 (d : Nat) (L st : List Value) (h : gd_H) : go gd_P0 d 133 1 L st h = gs gd_P0 d 133 1 L (i_ald 0 2 L st h) := go_eq gd_P0 d 133 1 L st h
theorem x133_2 (d : Nat) (L st : List Value) (h : gd_H) : go gd_P0 d 133 2 L st h = gs gd_P0 d 133 2 L (i_getI 19 0 5 L st h) := go_eq gd_P0 d 133 2 L st h
theorem x133_5 (d : Nat) (L st : List Value) (h : gd_H) : go gd_P0 d 133 5 L st h = gs gd_P0 d 133 5 L (i_ifne 22 8 L st h) := go_eq gd_P0 d 133 5 L st h
theorem x133_8 (d : Nat) (L st : List Value) (h : gd_H) : go gd_P0 d 133 8 L st h = gs gd_P0 d 133 8 L (i_ald 1 9 L st h) := go_eq gd_P0 d 133 8 L st h
theorem x133_9 (d : Nat) (L st : List Value) (h : gd_H) : go gd_P0 d 133 9 L st h = gs gd_P0 d 133 9 L (i_getR 22 0 12 L st h) := go_eq gd_P0 d 133 9 L st h
theorem x133_12 (d : Nat) (L st : List Value) (h : gd_H) : go gd_P0 d 133 12 L st h = gs gd_P0 d 133 12 L (i_ald 0 13 L st h) := go_eq gd_P0 d 133 12 L st h
theorem x133_13 (d : Nat) (L st : List Value) (h : gd_H) : go gd_P0 d 133 13 L st h = gs gd_P0 d 133 13 L (i_getI 19 1 16 L st h) := go_eq gd_P0 d 133 13 L st h
theorem x133_16 (d : Nat) (L st : List Value) (h : gd_H) : go gd_P0 d 133 16 L st h = gs gd_P0 d 133 16 L (i_cV 160 1 4 19 L st h) := go_eq gd_P0 d 133 16 L st h
theorem x133_19 (d : Nat) (L st : List Value) (h : gd_H) : go gd_P0 d 133 19 L st h = gs gd_P0 d 133 19 L (i_msk [false, false] (i_goto 46) L st h) := go_eq gd_P0 d 133 19 L st h
theorem x133_22 (d : Nat) (L st : List Value) (h : gd_H) : go gd_P0 d 133 22 L st h = gs gd_P0 d 133 22 L (i_ald 1 23 L st h) := go_eq gd_P0 d 133 22 L st h
theorem x133_23 (d : Nat) (L st : List Value) (h : gd_H) : go gd_P0 d 133 23 L st h = gs gd_P0 d 133 23 L (i_getR 22 0 26 L st h) := go_eq gd_P0 d 133 23 L st h
theorem x133_26 (d : Nat) (L st : List Value) (h : gd_H) : go gd_P0 d 133 26 L st h = gs gd_P0 d 133 26 L (i_ald 0 27 L st h) := go_eq gd_P0 d 133 26 L st h
theorem x133_27 (d : Nat) (L st : List Value) (h : gd_H) : go gd_P0 d 133 27 L st h = gs gd_P0 d 133 27 L (i_getI 19 1 30 L st h) := go_eq gd_P0 d 133 27 L st h
theorem x133_30 (d : Nat) (L st : List Value) (h : gd_H) : go gd_P0 d 133 30 L st h = gs gd_P0 d 133 30 L (i_ald 0 31 L st h) := go_eq gd_P0 d 133 30 L st h
theorem x133_31 (d : Nat) (L st : List Value) (h : gd_H) : go gd_P0 d 133 31 L st h = gs gd_P0 d 133 31 L (i_getI 19 0 34 L st h) := go_eq gd_P0 d 133 31 L st h
theorem x133_34 (d : Nat) (L st : List Value) (h : gd_H) : go gd_P0 d 133 34 L st h = gs gd_P0 d 133 34 L (i_psh (.int 5) 35 L st h) := go_eq gd_P0 d 133 34 L st h
theorem x133_35 (d : Nat) (L st : List Value) (h : gd_H) : go gd_P0 d 133 35 L st h = gs gd_P0 d 133 35 L (i_icne 42 38 L st h) := go_eq gd_P0 d 133 35 L st h
theorem x133_38 (d : Nat) (L st : List Value) (h : gd_H) : go gd_P0 d 133 38 L st h = gs gd_P0 d 133 38 L (i_psh (.int 1) 39 L st h) := go_eq gd_P0 d 133 38 L st h
theorem x133_39 (d : Nat) (L st : List Value) (h : gd_H) : go gd_P0 d 133 39 L st h = gs gd_P0 d 133 39 L (i_goto 43 L st h) := go_eq gd_P0 d 133 39 L st h
theorem x133_42 (d : Nat) (L st : List Value) (h : gd_H) : go gd_P0 d 133 42 L st h = gs gd_P0 d 133 42 L (i_psh (.int 0) 43 L st h) := go_eq gd_P0 d 133 42 L st h
theorem x133_43 (d : Nat) (L st : List Value) (h : gd_H) : go gd_P0 d 133 43 L st h = gs gd_P0 d 133 43 L (i_msk [false, false] (i_cV 163 2 4 46) L st h) := go_eq gd_P0 d 133 43 L st h
theorem x133_46 (d : Nat) (L st : List Value) (h : gd_H) : go gd_P0 d 133 46 L st h = gs gd_P0 d 133 46 L (i_msk [false, false] (i_cV 143 1 22 49) L st h) := go_eq gd_P0 d 133 46 L st h
theorem x133_49 (d : Nat) (L st : List Value) (h : gd_H) : go gd_P0 d 133 49 L st h = gs gd_P0 d 133 49 L (i_msk [false, false] (i_ret) L st h) := go_eq gd_P0 d 133 49 L st h
theorem s133_0 (d : Nat) (h : gd_H) (v0 : Nat) (v1 : Nat) : go gd_P0 d 133 0 [.ref v0, .ref v1] [] h =
    if gT h v0 = 19 then if (gI h v0 0) = 0 then if gT h v1 = 22 then if gT h v0 = 19 then if gT h (gR h v1 0) = 4 then gc gd_P0 d 133 16 19 [.ref v0, .ref v1] [.ref v1] (run gd_P0 d 160 [.ref (gR h v1 0), .int (gI h v0 1)] h) else none else none else none else if gT h v1 = 22 then if gT h v0 = 19 then if gT h v0 = 19 then if (gI h v0 0) = 5 then go gd_P0 d 133 43 [.ref v0, .ref v1] [.int 1, .int (gI h v0 1), .ref (gR h v1 0), .ref v1] h else go gd_P0 d 133 43 [.ref v0, .ref v1] [.int 0, .int (gI h v0 1), .ref (gR h v1 0), .ref v1] h else none else none else none else none :=
  (x133_0 ..).trans ((x133_1 ..).trans ((x133_2 ..).trans ((gs_if ..).trans (ic9 ((x133_5 ..).trans ((gs_if ..).trans (ic9 ((x133_8 ..).trans ((x133_9 ..).trans ((gs_if ..).trans (ic9 ((x133_12 ..).trans ((x133_13 ..).trans ((gs_if ..).trans (ic9 ((x133_16 ..).trans ((gs_if ..).trans ((ia9 (by simp)).trans (ic9 rfl rfl)))) rfl)))) rfl)))) ((x133_22 ..).trans ((x133_23 ..).trans ((gs_if ..).trans (ic9 ((x133_26 ..).trans ((x133_27 ..).trans ((gs_if ..).trans (ic9 ((x133_30 ..).trans ((x133_31 ..).trans ((gs_if ..).trans (ic9 ((x133_34 ..).trans ((x133_35 ..).trans ((gs_if ..).trans (ic9 ((x133_38 ..).trans ((x133_39 ..))) ((x133_42 ..)))))) rfl)))) rfl)))) rfl))))))) rfl))))
theorem s133_19 (d : Nat) (h : gd_H) (w0 : Value) (w1 : Value) (z0 : Int32) (z1 : Nat) : go gd_P0 d 133 19 [w0, w1] [.int z0, .ref z1] h =
    go gd_P0 d 133 46 [.null, .null] [.int z0, .ref z1] h :=
  (x133_19 ..)
theorem s133_43 (d : Nat) (h : gd_H) (w0 : Value) (w1 : Value) (z0 : Int32) (z1 : Int32) (z2 : Nat) (z3 : Nat) : go gd_P0 d 133 43 [w0, w1] [.int z0, .int z1, .ref z2, .ref z3] h =
    if gT h z2 = 4 then gc gd_P0 d 133 43 46 [.null, .null] [.ref z3] (run gd_P0 d 163 [.ref z2, .int z1, .int z0] h) else none :=
  (x133_43 ..).trans ((gs_nif ..).trans ((ia9 (by simp)).trans (ic9 rfl rfl)))
theorem s133_46 (d : Nat) (h : gd_H) (w0 : Value) (w1 : Value) (z0 : Int32) (z1 : Nat) : go gd_P0 d 133 46 [w0, w1] [.int z0, .ref z1] h =
    if gT h z1 = 22 then gc gd_P0 d 133 46 49 [.null, .null] [] (run gd_P0 d 143 [.ref z1, .int z0] h) else none :=
  (x133_46 ..).trans ((gs_nif ..).trans ((ia9 (by simp)).trans (ic9 rfl rfl)))
theorem s133_49 (d : Nat) (h : gd_H) (w0 : Value) (w1 : Value) : go gd_P0 d 133 49 [w0, w1] [] h =
    some (.inl none, h) :=
  (x133_49 ..)
theorem r133 (d : Nat) (h : gd_H) (v0 : Nat) (v1 : Nat) : run gd_P0 (d + 1) 133 [.ref v0, .ref v1] h = go gd_P0 d 133 0 [.ref v0, .ref v1] [] h := run_succ gd_P0 d 133 [.ref v0, .ref v1] h (Nat.le_of_ble_eq_true rfl)
theorem x134_0 (d : Nat) (L st : List Value) (h : gd_H) : go gd_P0 d 134 0 L st h = gs gd_P0 d 134 0 L (i_ald 0 1 L st h) := go_eq gd_P0 d 134 0 L st h
theorem x134_1 (d : Nat) (L st : List Value) (h : gd_H) : go gd_P0 d 134 1 L st h = gs gd_P0 d 134 1 L (i_oin 4 L st h) := go_eq gd_P0 d 134 1 L st h
theorem x134_4 (d : Nat) (L st : List Value) (h : gd_H) : go gd_P0 d 134 4 L st h = gs gd_P0 d 134 4 L (i_msk [false] (i_ret) L st h) := go_eq gd_P0 d 134 4 L st h
theorem s134_0 (d : Nat) (h : gd_H) (v0 : Nat) : go gd_P0 d 134 0 [.ref v0] [] h =
    if 4 ≤ v0 then go gd_P0 d 134 4 [.ref v0] [] h else none :=
  (x134_0 ..).trans ((x134_1 ..).trans ((gs_if ..).trans ((ia9 (by simp)).trans (ic9 (rfl) rfl))))
theorem s134_4 (d : Nat) (h : gd_H) (w0 : Value) : go gd_P0 d 134 4 [w0] [] h =
    some (.inl none, h) :=
  (x134_4 ..)
theorem r134 (d : Nat) (h : gd_H) (v0 : Nat) : run gd_P0 (d + 1) 134 [.ref v0] h = go gd_P0 d 134 0 [.ref v0] [] h := run_succ gd_P0 d 134 [.ref v0] h (Nat.le_of_ble_eq_true rfl)
theorem x135_0 (d : Nat) (L st : List Value) (h : gd_H) : go gd_P0 d 135 0 L st h = gs gd_P0 d 135 0 L (i_psh (.int 0) 1 L st h) := go_eq gd_P0 d 135 0 L st h
theorem x135_1 (d : Nat) (L st : List Value) (h : gd_H) : go gd_P0 d 135 1 L st h = gs gd_P0 d 135 1 L (i_psh (.int 9) 3 L st h) := go_eq gd_P0 d 135 1 L st h
theorem x135_3 (d : Nat) (L st : List Value) (h : gd_H) : go gd_P0 d 135 3 L st h = gs gd_P0 d 135 3 L (i_ald 0 4 L st h) := go_eq gd_P0 d 135 3 L st h
theorem x135_4 (d : Nat) (L st : List Value) (h : gd_H) : go gd_P0 d 135 4 L st h = gs gd_P0 d 135 4 L (i_getR 2 0 7 L st h) := go_eq gd_P0 d 135 4 L st h
theorem x135_7 (d : Nat) (L st : List Value) (h : gd_H) : go gd_P0 d 135 7 L st h = gs gd_P0 d 135 7 L (i_ifnonnull 21 10 L st h) := go_eq gd_P0 d 135 7 L st h
theorem x135_10 (d : Nat) (L st : List Value) (h : gd_H) : go gd_P0 d 135 10 L st h = gs gd_P0 d 135 10 L (i_psh (.int 1) 11 L st h) := go_eq gd_P0 d 135 10 L st h
theorem x135_11 (d : Nat) (L st : List Value) (h : gd_H) : go gd_P0 d 135 11 L st h = gs gd_P0 d 135 11 L (i_ald 1 12 L st h) := go_eq gd_P0 d 135 11 L st h
theorem x135_12 (d : Nat) (L st : List Value) (h : gd_H) : go gd_P0 d 135 12 L st h = gs gd_P0 d 135 12 L (i_getI 5 0 15 L st h) := go_eq gd_P0 d 135 12 L st h
theorem x135_15 (d : Nat) (L st : List Value) (h : gd_H) : go gd_P0 d 135 15 L st h = gs gd_P0 d 135 15 L (i_psh (.int 3) 16 L st h) := go_eq gd_P0 d 135 15 L st h
theorem x135_16 (d : Nat) (L st : List Value) (h : gd_H) : go gd_P0 d 135 16 L st h = gs gd_P0 d 135 16 L (i_idiv 17 L st h) := go_eq gd_P0 d 135 16 L st h
theorem x135_17 (d : Nat) (L st : List Value) (h : gd_H) : go gd_P0 d 135 17 L st h = gs gd_P0 d 135 17 L (i_iadd 18 L st h) := go_eq gd_P0 d 135 17 L st h
theorem x135_18 (d : Nat) (L st : List Value) (h : gd_H) : go gd_P0 d 135 18 L st h = gs gd_P0 d 135 18 L (i_goto 31 L st h) := go_eq gd_P0 d 135 18 L st h
theorem x135_21 (d : Nat) (L st : List Value) (h : gd_H) : go gd_P0 d 135 21 L st h = gs gd_P0 d 135 21 L (i_ald 0 22 L st h) := go_eq gd_P0 d 135 21 L st h
theorem x135_22 (d : Nat) (L st : List Value) (h : gd_H) : go gd_P0 d 135 22 L st h = gs gd_P0 d 135 22 L (i_getR 2 0 25 L st h) := go_eq gd_P0 d 135 22 L st h
theorem x135_25 (d : Nat) (L st : List Value) (h : gd_H) : go gd_P0 d 135 25 L st h = gs gd_P0 d 135 25 L (i_ald 1 26 L st h) := go_eq gd_P0 d 135 25 L st h
theorem x135_26 (d : Nat) (L st : List Value) (h : gd_H) : go gd_P0 d 135 26 L st h = gs gd_P0 d 135 26 L (i_cF gd_tkF 1 31 L st h) := go_eq gd_P0 d 135 26 L st h
theorem x135_31 (d : Nat) (L st : List Value) (h : gd_H) : go gd_P0 d 135 31 L st h = gs gd_P0 d 135 31 L (i_msk [false, false] (i_mmin 34) L st h) := go_eq gd_P0 d 135 31 L st h
theorem x135_34 (d : Nat) (L st : List Value) (h : gd_H) : go gd_P0 d 135 34 L st h = gs gd_P0 d 135 34 L (i_msk [false, false] (i_mmax 37) L st h) := go_eq gd_P0 d 135 34 L st h
theorem x135_37 (d : Nat) (L st : List Value) (h : gd_H) : go gd_P0 d 135 37 L st h = gs gd_P0 d 135 37 L (i_msk [false, false] (i_iret) L st h) := go_eq gd_P0 d 135 37 L st h
theorem s135_0 (d : Nat) (h : gd_H) (v0 : Nat) (v1 : Nat) : go gd_P0 d 135 0 [.ref v0, .ref v1] [] h =
    if gT h v0 = 2 then if (gR h v0 0) = 0 then if gT h v1 = 5 then go gd_P0 d 135 31 [.ref v0, .ref v1] [.int (1 + ((gI h v1 0) / 3)), .int 9, .int 0] h else none else if 4 ≤ (gR h v0 0) then if gT h v0 = 2 then match slk gd_tkF (gT h (gR h v0 0)) with
    | some k9 => gc gd_P0 d 135 26 31 [.ref v0, .ref v1] [.int 9, .int 0] (run gd_P0 d k9 [.ref (gR h v0 0), .ref v1] h)
    | none => none else none else none else none :=
  (x135_0 ..).trans ((x135_1 ..).trans ((x135_3 ..).trans ((x135_4 ..).trans ((gs_if ..).trans (ic9 ((x135_7 ..).trans ((gs_if ..).trans (ic9 ((x135_10 ..).trans ((x135_11 ..).trans ((x135_12 ..).trans ((gs_if ..).trans (ic9 ((x135_15 ..).trans ((x135_16 ..).trans ((gs_div (y := (3 : Int32)) (by decide)).trans ((x135_17 ..).trans ((x135_18 ..)))))) rfl))))) ((gs_if ..).trans (ic9 ((x135_21 ..).trans ((x135_22 ..).trans ((gs_if ..).trans (ic9 ((x135_25 ..).trans ((x135_26 ..).trans (gs_cF rfl (Nat.le_of_ble_eq_true rfl)))) rfl)))) rfl))))) rfl)))))
theorem s135_31 (d : Nat) (h : gd_H) (w0 : Value) (w1 : Value) (z0 : Int32) (z1 : Int32) (z2 : Int32) : go gd_P0 d 135 31 [w0, w1] [.int z0, .int z1, .int z2] h =
    go gd_P0 d 135 34 [.null, .null] [.int (if z0 < z1 then z0 else z1), .int z2] h :=
  (x135_31 ..)
theorem s135_34 (d : Nat) (h : gd_H) (w0 : Value) (w1 : Value) (z0 : Int32) (z1 : Int32) : go gd_P0 d 135 34 [w0, w1] [.int z0, .int z1] h =
    go gd_P0 d 135 37 [.null, .null] [.int (if z1 < z0 then z0 else z1)] h :=
  (x135_34 ..)
theorem s135_37 (d : Nat) (h : gd_H) (w0 : Value) (w1 : Value) (z0 : Int32) : go gd_P0 d 135 37 [w0, w1] [.int z0] h =
    some (.inl (some (.int z0)), h) :=
  (x135_37 ..)
theorem r135 (d : Nat) (h : gd_H) (v0 : Nat) (v1 : Nat) : run gd_P0 (d + 1) 135 [.ref v0, .ref v1] h = go gd_P0 d 135 0 [.ref v0, .ref v1] [] h := run_succ gd_P0 d 135 [.ref v0, .ref v1] h (Nat.le_of_ble_eq_true rfl)
theorem x136_0 (d : Nat) (L st : List Value) (h : gd_H) : go gd_P0 d 136 0 L st h = gs gd_P0 d 136 0 L (i_ald 0 1 L st h) := go_eq gd_P0 d 136 0 L st h
theorem x136_1 (d : Nat) (L st : List Value) (h : gd_H) : go gd_P0 d 136 1 L st h = gs gd_P0 d 136 1 L (i_cV 128 0 20 4 L st h) := go_eq gd_P0 d 136 1 L st h
theorem x136_4 (d : Nat) (L st : List Value) (h : gd_H) : go gd_P0 d 136 4 L st h = gs gd_P0 d 136 4 L (i_msk [true, true, true, true] (i_ald 0 5) L st h) := go_eq gd_P0 d 136 4 L st h
theorem x136_5 (d : Nat) (L st : List Value) (h : gd_H) : go gd_P0 d 136 5 L st h = gs gd_P0 d 136 5 L (i_ild 1 6 L st h) := go_eq gd_P0 d 136 5 L st h
theorem x136_6 (d : Nat) (L st : List Value) (h : gd_H) : go gd_P0 d 136 6 L st h = gs gd_P0 d 136 6 L (i_putI 20 0 9 L st h) := go_eq gd_P0 d 136 6 L st h
theorem x136_9 (d : Nat) (L st : List Value) (h : gd_H) : go gd_P0 d 136 9 L st h = gs gd_P0 d 136 9 L (i_ald 0 10 L st h) := go_eq gd_P0 d 136 9 L st h
theorem x136_10 (d : Nat) (L st : List Value) (h : gd_H) : go gd_P0 d 136 10 L st h = gs gd_P0 d 136 10 L (i_ild 2 11 L st h) := go_eq gd_P0 d 136 10 L st h
theorem x136_11 (d : Nat) (L st : List Value) (h : gd_H) : go gd_P0 d 136 11 L st h = gs gd_P0 d 136 11 L (i_putI 20 1 14 L st h) := go_eq gd_P0 d 136 11 L st h
theorem x136_14 (d : Nat) (L st : List Value) (h : gd_H) : go gd_P0 d 136 14 L st h = gs gd_P0 d 136 14 L (i_ald 0 15 L st h) := go_eq gd_P0 d 136 14 L st h
theorem x136_15 (d : Nat) (L st : List Value) (h : gd_H) : go gd_P0 d 136 15 L st h = gs gd_P0 d 136 15 L (i_ild 3 16 L st h) := go_eq gd_P0 d 136 15 L st h
theorem x136_16 (d : Nat) (L st : List Value) (h : gd_H) : go gd_P0 d 136 16 L st h = gs gd_P0 d 136 16 L (i_putI 20 2 19 L st h) := go_eq gd_P0 d 136 16 L st h
theorem x136_19 (d : Nat) (L st : List Value) (h : gd_H) : go gd_P0 d 136 19 L st h = gs gd_P0 d 136 19 L (i_ret L st h) := go_eq gd_P0 d 136 19 L st h
theorem s136_0 (d : Nat) (h : gd_H) (v0 : Nat) (v1 : Int32) (v2 : Int32) (v3 : Int32) : go gd_P0 d 136 0 [.ref v0, .int v1, .int v2, .int v3] [] h =
    if gT h v0 = 20 then gc gd_P0 d 136 1 4 [.ref v0, .int v1, .int v2, .int v3] [] (run gd_P0 d 128 [.ref v0] h) else none :=
  (x136_0 ..).trans ((x136_1 ..).trans ((gs_if ..).trans ((ia9 (by simp)).trans (ic9 rfl rfl))))
theorem s136_4 (d : Nat) (h : gd_H) (v0 : Nat) (v1 : Int32) (v2 : Int32) (v3 : Int32) : go gd_P0 d 136 4 [.ref v0, .int v1, .int v2, .int v3] [] h =
    if gT h v0 = 20 then if gT h v0 = 20 then if gT h v0 = 20 then some (.inl none, (wI h (up1 (up1 (up1 (gI h) v0 0 v1) v0 1 v2) v0 2 v3))) else none else none else none :=
  (x136_4 ..).trans ((x136_5 ..).trans ((x136_6 ..).trans ((gs_if ..).trans (ic9 ((x136_9 ..).trans ((x136_10 ..).trans ((x136_11 ..).trans ((gs_if ..).trans (ic9 ((x136_14 ..).trans ((x136_15 ..).trans ((x136_16 ..).trans ((gs_if ..).trans (ic9 ((x136_19 ..)) rfl))))) rfl))))) rfl))))
theorem r136 (d : Nat) (h : gd_H) (v0 : Nat) (v1 : Int32) (v2 : Int32) (v3 : Int32) : run gd_P0 (d + 1) 136 [.ref v0, .int v1, .int v2, .int v3] h = go gd_P0 d 136 0 [.ref v0, .int v1, .int v2, .int v3] [] h := run_succ gd_P0 d 136 [.ref v0, .int v1, .int v2, .int v3] h (Nat.le_of_ble_eq_true rfl)
theorem x137_0 (d : Nat) (L st : List Value) (h : gd_H) : go gd_P0 d 137 0 L st h = gs gd_P0 d 137 0 L (i_ald 1 1 L st h) := go_eq gd_P0 d 137 0 L st h
theorem x137_1 (d : Nat) (L st : List Value) (h : gd_H) : go gd_P0 d 137 1 L st h = gs gd_P0 d 137 1 L (i_ald 0 2 L st h) := go_eq gd_P0 d 137 1 L st h
theorem x137_2 (d : Nat) (L st : List Value) (h : gd_H) : go gd_P0 d 137 2 L st h = gs gd_P0 d 137 2 L (i_getI 20 0 5 L st h) := go_eq gd_P0 d 137 2 L st h
theorem x137_5 (d : Nat) (L st : List Value) (h : gd_H) : go gd_P0 d 137 5 L st h = gs gd_P0 d 137 5 L (i_psh (.int 1) 6 L st h) := go_eq gd_P0 d 137 5 L st h
theorem x137_6 (d : Nat) (L st : List Value) (h : gd_H) : go gd_P0 d 137 6 L st h = gs gd_P0 d 137 6 L (i_icne 27 9 L st h) := go_eq gd_P0 d 137 6 L st h
theorem x137_9 (d : Nat) (L st : List Value) (h : gd_H) : go gd_P0 d 137 9 L st h = gs gd_P0 d 137 9 L (i_ald 1 10 L st h) := go_eq gd_P0 d 137 9 L st h
theorem x137_10 (d : Nat) (L st : List Value) (h : gd_H) : go gd_P0 d 137 10 L st h = gs gd_P0 d 137 10 L (i_getR 22 0 13 L st h) := go_eq gd_P0 d 137 10 L st h
theorem x137_13 (d : Nat) (L st : List Value) (h : gd_H) : go gd_P0 d 137 13 L st h = gs gd_P0 d 137 13 L (i_ald 0 14 L st h) := go_eq gd_P0 d 137 13 L st h
theorem x137_14 (d : Nat) (L st : List Value) (h : gd_H) : go gd_P0 d 137 14 L st h = gs gd_P0 d 137 14 L (i_getI 20 1 17 L st h) := go_eq gd_P0 d 137 14 L st h
theorem x137_17 (d : Nat) (L st : List Value) (h : gd_H) : go gd_P0 d 137 17 L st h = gs gd_P0 d 137 17 L (i_ald 0 18 L st h) := go_eq gd_P0 d 137 17 L st h
theorem x137_18 (d : Nat) (L st : List Value) (h : gd_H) : go gd_P0 d 137 18 L st h = gs gd_P0 d 137 18 L (i_getI 20 2 21 L st h) := go_eq gd_P0 d 137 18 L st h
theorem x137_21 (d : Nat) (L st : List Value) (h : gd_H) : go gd_P0 d 137 21 L st h = gs gd_P0 d 137 21 L (i_cV 164 2 4 24 L st h) := go_eq gd_P0 d 137 21 L st h
theorem x137_24 (d : Nat) (L st : List Value) (h : gd_H) : go gd_P0 d 137 24 L st h = gs gd_P0 d 137 24 L (i_msk [false, false] (i_goto 64) L st h) := go_eq gd_P0 d 137 24 L st h
theorem x137_27 (d : Nat) (L st : List Value) (h : gd_H) : go gd_P0 d 137 27 L st h = gs gd_P0 d 137 27 L (i_ald 0 28 L st h) := go_eq gd_P0 d 137 27 L st h
theorem x137_28 (d : Nat) (L st : List Value) (h : gd_H) : go gd_P0 d 137 28 L st h = gs gd_P0 d 137 28 L (i_getI 20 0 31 L st h) := go_eq gd_P0 d 137 28 L st h
theorem x137_31 (d : Nat) (L st : List Value) (h : gd_H) : go gd_P0 d 137 31 L st h = gs gd_P0 d 137 31 L (i_psh (.int 2) 32 L st h) := go_eq gd_P0 d 137 31 L st h
theorem x137_32 (d : Nat) (L st : List Value) (h : gd_H) : go gd_P0 d 137 32 L st h = gs gd_P0 d 137 32 L (i_icne 49 35 L st h) := go_eq gd_P0 d 137 32 L st h
theorem x137_35 (d : Nat) (L st : List Value) (h : gd_H) : go gd_P0 d 137 35 L st h = gs gd_P0 d 137 35 L (i_ald 1 36 L st h) := go_eq gd_P0 d 137 35 L st h
theorem x137_36 (d : Nat) (L st : List Value) (h : gd_H) : go gd_P0 d 137 36 L st h = gs gd_P0 d 137 36 L (i_getR 22 0 39 L st h) := go_eq gd_P0 d 137 36 L st h
theorem x137_39 (d : Nat) (L st : List Value) (h : gd_H) : go gd_P0 d 137 39 L st h = gs gd_P0 d 137 39 L (i_ald 0 40 L st h) := go_eq gd_P0 d 137 39 L st h
theorem x137_40 (d : Nat) (L st : List Value) (h : gd_H) : go gd_P0 d 137 40 L st h = gs gd_P0 d 137 40 L (i_getI 20 2 43 L st h) := go_eq gd_P0 d 137 40 L st h
theorem x137_43 (d : Nat) (L st : List Value) (h : gd_H) : go gd_P0 d 137 43 L st h = gs gd_P0 d 137 43 L (i_cV 165 1 4 46 L st h) := go_eq gd_P0 d 137 43 L st h
theorem x137_46 (d : Nat) (L st : List Value) (h : gd_H) : go gd_P0 d 137 46 L st h = gs gd_P0 d 137 46 L (i_msk [false, false] (i_goto 64) L st h) := go_eq gd_P0 d 137 46 L st h
theorem x137_49 (d : Nat) (L st : List Value) (h : gd_H) : go gd_P0 d 137 49 L st h = gs gd_P0 d 137 49 L (i_ald 1 50 L st h) := go_eq gd_P0 d 137 49 L st h
theorem x137_50 (d : Nat) (L st : List Value) (h : gd_H) : go gd_P0 d 137 50 L st h = gs gd_P0 d 137 50 L (i_getR 22 0 53 L st h) := go_eq gd_P0 d 137 50 L st h
theorem x137_53 (d : Nat) (L st : List Value) (h : gd_H) : go gd_P0 d 137 53 L st h = gs gd_P0 d 137 53 L (i_ald 0 54 L st h) := go_eq gd_P0 d 137 53 L st h
theorem x137_54 (d : Nat) (L st : List Value) (h : gd_H) : go gd_P0 d 137 54 L st h = gs gd_P0 d 137 54 L (i_getI 20 1 57 L st h) := go_eq gd_P0 d 137 54 L st h
theorem x137_57 (d : Nat) (L st : List Value) (h : gd_H) : go gd_P0 d 137 57 L st h = gs gd_P0 d 137 57 L (i_ald 0 58 L st h) := go_eq gd_P0 d 137 57 L st h
theorem x137_58 (d : Nat) (L st : List Value) (h : gd_H) : go gd_P0 d 137 58 L st h = gs gd_P0 d 137 58 L (i_getI 20 2 61 L st h) := go_eq gd_P0 d 137 58 L st h
theorem x137_61 (d : Nat) (L st : List Value) (h : gd_H) : go gd_P0 d 137 61 L st h = gs gd_P0 d 137 61 L (i_cV 166 2 4 64 L st h) := go_eq gd_P0 d 137 61 L st h
theorem x137_64 (d : Nat) (L st : List Value) (h : gd_H) : go gd_P0 d 137 64 L st h = gs gd_P0 d 137 64 L (i_msk [false, false] (i_cV 143 1 22 67) L st h) := go_eq gd_P0 d 137 64 L st h
theorem x137_67 (d : Nat) (L st : List Value) (h : gd_H) : go gd_P0 d 137 67 L st h = gs gd_P0 d 137 67 L (i_msk [false, false] (i_ret) L st h) := go_eq gd_P0 d 137 67 L st h
theorem s137_0 (d : Nat) (h : gd_H) (v0 : Nat) (v1 : Nat) : go gd_P0 d 137 0 [.ref v0, .ref v1] [] h =
    if gT h v0 = 20 then if (gI h v0 0) = 1 then if gT h v1 = 22 then if gT h v0 = 20 then if gT h v0 = 20 then if gT h (gR h v1 0) = 4 then gc gd_P0 d 137 21 24 [.ref v0, .ref v1] [.ref v1] (run gd_P0 d 164 [.ref (gR h v1 0), .int (gI h v0 1), .int (gI h v0 2)] h) else none else none else none else none else if gT h v0 = 20 then if (gI h v0 0) = 2 then if gT h v1 = 22 then if gT h v0 = 20 then if gT h (gR h v1 0) = 4 then gc gd_P0 d 137 43 46 [.ref v0, .ref v1] [.ref v1] (run gd_P0 d 165 [.ref (gR h v1 0), .int (gI h v0 2)] h) else none else none else none else if gT h v1 = 22 then if gT h v0 = 20 then if gT h v0 = 20 then if gT h (gR h v1 0) = 4 then gc gd_P0 d 137 61 64 [.ref v0, .ref v1] [.ref v1] (run gd_P0 d 166 [.ref (gR h v1 0), .int (gI h v0 1), .int (gI h v0 2)] h) else none else none else none else none else none else none :=
  (x137_0 ..).trans ((x137_1 ..).trans ((x137_2 ..).trans ((gs_if ..).trans (ic9 ((x137_5 ..).trans ((x137_6 ..).trans ((gs_if ..).trans (ic9 ((x137_9 ..).trans ((x137_10 ..).trans ((gs_if ..).trans (ic9 ((x137_13 ..).trans ((x137_14 ..).trans ((gs_if ..).trans (ic9 ((x137_17 ..).trans ((x137_18 ..).trans ((gs_if ..).trans (ic9 ((x137_21 ..).trans ((gs_if ..).trans ((ia9 (by simp)).trans (ic9 rfl rfl)))) rfl)))) rfl)))) rfl)))) ((x137_27 ..).trans ((x137_28 ..).trans ((gs_if ..).trans (ic9 ((x137_31 ..).trans ((x137_32 ..).trans ((gs_if ..).trans (ic9 ((x137_35 ..).trans ((x137_36 ..).trans ((gs_if ..).trans (ic9 ((x137_39 ..).trans ((x137_40 ..).trans ((gs_if ..).trans (ic9 ((x137_43 ..).trans ((gs_if ..).trans ((ia9 (by simp)).trans (ic9 rfl rfl)))) rfl)))) rfl)))) ((x137_49 ..).trans ((x137_50 ..).trans ((gs_if ..).trans (ic9 ((x137_53 ..).trans ((x137_54 ..).trans ((gs_if ..).trans (ic9 ((x137_57 ..).trans ((x137_58 ..).trans ((gs_if ..).trans (ic9 ((x137_61 ..).trans ((gs_if ..).trans ((ia9 (by simp)).trans (ic9 rfl rfl)))) rfl)))) rfl)))) rfl)))))))) rfl)))))))) rfl))))
theorem s137_24 (d : Nat) (h : gd_H) (w0 : Value) (w1 : Value) (z0 : Int32) (z1 : Nat) : go gd_P0 d 137 24 [w0, w1] [.int z0, .ref z1] h =
    go gd_P0 d 137 64 [.null, .null] [.int z0, .ref z1] h :=
  (x137_24 ..)
theorem s137_46 (d : Nat) (h : gd_H) (w0 : Value) (w1 : Value) (z0 : Int32) (z1 : Nat) : go gd_P0 d 137 46 [w0, w1] [.int z0, .ref z1] h =
    go gd_P0 d 137 64 [.null, .null] [.int z0, .ref z1] h :=
  (x137_46 ..)
theorem s137_64 (d : Nat) (h : gd_H) (w0 : Value) (w1 : Value) (z0 : Int32) (z1 : Nat) : go gd_P0 d 137 64 [w0, w1] [.int z0, .ref z1] h =
    if gT h z1 = 22 then gc gd_P0 d 137 64 67 [.null, .null] [] (run gd_P0 d 143 [.ref z1, .int z0] h) else none :=
  (x137_64 ..).trans ((gs_nif ..).trans ((ia9 (by simp)).trans (ic9 rfl rfl)))
theorem s137_67 (d : Nat) (h : gd_H) (w0 : Value) (w1 : Value) : go gd_P0 d 137 67 [w0, w1] [] h =
    some (.inl none, h) :=
  (x137_67 ..)
theorem r137 (d : Nat) (h : gd_H) (v0 : Nat) (v1 : Nat) : run gd_P0 (d + 1) 137 [.ref v0, .ref v1] h = go gd_P0 d 137 0 [.ref v0, .ref v1] [] h := run_succ gd_P0 d 137 [.ref v0, .ref v1] h (Nat.le_of_ble_eq_true rfl)
theorem x138_0 (d : Nat) (L st : List Value) (h : gd_H) : go gd_P0 d 138 0 L st h = gs gd_P0 d 138 0 L (i_ald 0 1 L st h) := go_eq gd_P0 d 138 0 L st h
theorem x138_1 (d : Nat) (L st : List Value) (h : gd_H) : go gd_P0 d 138 1 L st h = gs gd_P0 d 138 1 L (i_cV 128 0 21 4 L st h) := go_eq gd_P0 d 138 1 L st h
theorem x138_4 (d : Nat) (L st : List Value) (h : gd_H) : go gd_P0 d 138 4 L st h = gs gd_P0 d 138 4 L (i_msk [false] (i_ret) L st h) := go_eq gd_P0 d 138 4 L st h
theorem s138_0 (d : Nat) (h : gd_H) (v0 : Nat) : go gd_P0 d 138 0 [.ref v0] [] h =
    if gT h v0 = 21 then gc gd_P0 d 138 1 4 [.ref v0] [] (run gd_P0 d 128 [.ref v0] h) else none :=
  (x138_0 ..).trans ((x138_1 ..).trans ((gs_if ..).trans ((ia9 (by simp)).trans (ic9 rfl rfl))))
theorem s138_4 (d : Nat) (h : gd_H) (w0 : Value) : go gd_P0 d 138 4 [w0] [] h =
    some (.inl none, h) :=
  (x138_4 ..)
theorem r138 (d : Nat) (h : gd_H) (v0 : Nat) : run gd_P0 (d + 1) 138 [.ref v0] h = go gd_P0 d 138 0 [.ref v0] [] h := run_succ gd_P0 d 138 [.ref v0] h (Nat.le_of_ble_eq_true rfl)
theorem x139_0 (d : Nat) (L st : List Value) (h : gd_H) : go gd_P0 d 139 0 L st h = gs gd_P0 d 139 0 L (i_ald 1 1 L st h) := go_eq gd_P0 d 139 0 L st h
theorem x139_1 (d : Nat) (L st : List Value) (h : gd_H) : go gd_P0 d 139 1 L st h = gs gd_P0 d 139 1 L (i_ald 1 2 L st h) := go_eq gd_P0 d 139 1 L st h
theorem x139_2 (d : Nat) (L st : List Value) (h : gd_H) : go gd_P0 d 139 2 L st h = gs gd_P0 d 139 2 L (i_getR 22 0 5 L st h) := go_eq gd_P0 d 139 2 L st h
theorem x139_5 (d : Nat) (L st : List Value) (h : gd_H) : go gd_P0 d 139 5 L st h = gs gd_P0 d 139 5 L (i_cV 151 0 4 8 L st h) := go_eq gd_P0 d 139 5 L st h
theorem x139_8 (d : Nat) (L st : List Value) (h : gd_H) : go gd_P0 d 139 8 L st h = gs gd_P0 d 139 8 L (i_msk [false, false] (i_cV 143 1 22 11) L st h) := go_eq gd_P0 d 139 8 L st h
theorem x139_11 (d : Nat) (L st : List Value) (h : gd_H) : go gd_P0 d 139 11 L st h = gs gd_P0 d 139 11 L (i_msk [false, false] (i_ret) L st h) := go_eq gd_P0 d 139 11 L st h
theorem s139_0 (d : Nat) (h : gd_H) (v0 : Nat) (v1 : Nat) : go gd_P0 d 139 0 [.ref v0, .ref v1] [] h =
    if gT h v1 = 22 then if gT h (gR h v1 0) = 4 then gc gd_P0 d 139 5 8 [.ref v0, .ref v1] [.ref v1] (run gd_P0 d 151 [.ref (gR h v1 0)] h) else none else none :=
  (x139_0 ..).trans ((x139_1 ..).trans ((x139_2 ..).trans ((gs_if ..).trans (ic9 ((x139_5 ..).trans ((gs_if ..).trans ((ia9 (by simp)).trans (ic9 rfl rfl)))) rfl))))
theorem s139_8 (d : Nat) (h : gd_H) (w0 : Value) (w1 : Value) (z0 : Int32) (z1 : Nat) : go gd_P0 d 139 8 [w0, w1] [.int z0, .ref z1] h =
    if gT h z1 = 22 then gc gd_P0 d 139 8 11 [.null, .null] [] (run gd_P0 d 143 [.ref z1, .int z0] h) else none :=
  (x139_8 ..).trans ((gs_nif ..).trans ((ia9 (by simp)).trans (ic9 rfl rfl)))
theorem s139_11 (d : Nat) (h : gd_H) (w0 : Value) (w1 : Value) : go gd_P0 d 139 11 [w0, w1] [] h =
    some (.inl none, h) :=
  (x139_11 ..)
theorem r139 (d : Nat) (h : gd_H) (v0 : Nat) (v1 : Nat) : run gd_P0 (d + 1) 139 [.ref v0, .ref v1] h = go gd_P0 d 139 0 [.ref v0, .ref v1] [] h := run_succ gd_P0 d 139 [.ref v0, .ref v1] h (Nat.le_of_ble_eq_true rfl)
theorem x140_0 (d : Nat) (L st : List Value) (h : gd_H) : go gd_P0 d 140 0 L st h = gs gd_P0 d 140 0 L (i_ald 0 1 L st h) := go_eq gd_P0 d 140 0 L st h
theorem x140_1 (d : Nat) (L st : List Value) (h : gd_H) : go gd_P0 d 140 1 L st h = gs gd_P0 d 140 1 L (i_oin 4 L st h) := go_eq gd_P0 d 140 1 L st h
theorem x140_4 (d : Nat) (L st : List Value) (h : gd_H) : go gd_P0 d 140 4 L st h = gs gd_P0 d 140 4 L (i_msk [true, true] (i_ald 0 5) L st h) := go_eq gd_P0 d 140 4 L st h
theorem x140_5 (d : Nat) (L st : List Value) (h : gd_H) : go gd_P0 d 140 5 L st h = gs gd_P0 d 140 5 L (i_ald 1 6 L st h) := go_eq gd_P0 d 140 5 L st h
theorem x140_6 (d : Nat) (L st : List Value) (h : gd_H) : go gd_P0 d 140 6 L st h = gs gd_P0 d 140 6 L (i_putR 22 0 9 L st h) := go_eq gd_P0 d 140 6 L st h
theorem x140_9 (d : Nat) (L st : List Value) (h : gd_H) : go gd_P0 d 140 9 L st h = gs gd_P0 d 140 9 L (i_ret L st h) := go_eq gd_P0 d 140 9 L st h
theorem s140_0 (d : Nat) (h : gd_H) (v0 : Nat) (v1 : Nat) : go gd_P0 d 140 0 [.ref v0, .ref v1] [] h =
    if 4 ≤ v0 then go gd_P0 d 140 4 [.ref v0, .ref v1] [] h else none :=
  (x140_0 ..).trans ((x140_1 ..).trans ((gs_if ..).trans ((ia9 (by simp)).trans (ic9 (rfl) rfl))))
theorem s140_4 (d : Nat) (h : gd_H) (v0 : Nat) (v1 : Nat) : go gd_P0 d 140 4 [.ref v0, .ref v1] [] h =
    if gT h v0 = 22 then some (.inl none, (wR h (up1 (gR h) v0 0 v1))) else none :=
  (x140_4 ..).trans ((x140_5 ..).trans ((x140_6 ..).trans ((gs_if ..).trans (ic9 ((x140_9 ..)) rfl))))
theorem r140 (d : Nat) (h : gd_H) (v0 : Nat) (v1 : Nat) : run gd_P0 (d + 1) 140 [.ref v0, .ref v1] h = go gd_P0 d 140 0 [.ref v0, .ref v1] [] h := run_succ gd_P0 d 140 [.ref v0, .ref v1] h (Nat.le_of_ble_eq_true rfl)
theorem x141_0 (d : Nat) (L st : List Value) (h : gd_H) : go gd_P0 d 141 0 L st h = gs gd_P0 d 141 0 L (i_ald 0 1 L st h) := go_eq gd_P0 d 141 0 L st h
theorem x141_1 (d : Nat) (L st : List Value) (h : gd_H) : go gd_P0 d 141 1 L st h = gs gd_P0 d 141 1 L (i_getI 22 1 4 L st h) := go_eq gd_P0 d 141 1 L st h
theorem x141_4 (d : Nat) (L st : List Value) (h : gd_H) : go gd_P0 d 141 4 L st h = gs gd_P0 d 141 4 L (i_psh (.int 200) 7 L st h) := go_eq gd_P0 d 141 4 L st h
theorem x141_7 (d : Nat) (L st : List Value) (h : gd_H) : go gd_P0 d 141 7 L st h = gs gd_P0 d 141 7 L (i_icge 14 10 L st h) := go_eq gd_P0 d 141 7 L st h
theorem x141_10 (d : Nat) (L st : List Value) (h : gd_H) : go gd_P0 d 141 10 L st h = gs gd_P0 d 141 10 L (i_psh (.int 1) 11 L st h) := go_eq gd_P0 d 141 10 L st h
theorem x141_11 (d : Nat) (L st : List Value) (h : gd_H) : go gd_P0 d 141 11 L st h = gs gd_P0 d 141 11 L (i_goto 15 L st h) := go_eq gd_P0 d 141 11 L st h
theorem x141_14 (d : Nat) (L st : List Value) (h : gd_H) : go gd_P0 d 141 14 L st h = gs gd_P0 d 141 14 L (i_psh (.int 0) 15 L st h) := go_eq gd_P0 d 141 14 L st h
theorem x141_15 (d : Nat) (L st : List Value) (h : gd_H) : go gd_P0 d 141 15 L st h = gs gd_P0 d 141 15 L (i_msk [false] (i_zret) L st h) := go_eq gd_P0 d 141 15 L st h
theorem s141_0 (d : Nat) (h : gd_H) (v0 : Nat) : go gd_P0 d 141 0 [.ref v0] [] h =
    if gT h v0 = 22 then if 200 ≤ (gI h v0 1) then go gd_P0 d 141 15 [.ref v0] [.int 0] h else go gd_P0 d 141 15 [.ref v0] [.int 1] h else none :=
  (x141_0 ..).trans ((x141_1 ..).trans ((gs_if ..).trans (ic9 ((x141_4 ..).trans ((x141_7 ..).trans ((gs_if ..).trans (ic9 ((x141_14 ..)) ((x141_10 ..).trans ((x141_11 ..))))))) rfl)))
theorem s141_15 (d : Nat) (h : gd_H) (w0 : Value) (z0 : Int32) : go gd_P0 d 141 15 [w0] [.int z0] h =
    if z0 = 0 ∨ z0 = 1 then some (.inl (some (.int z0)), h) else none :=
  (x141_15 ..).trans ((gs_nif ..).trans (ic9 rfl rfl))
theorem r141 (d : Nat) (h : gd_H) (v0 : Nat) : run gd_P0 (d + 1) 141 [.ref v0] h = go gd_P0 d 141 0 [.ref v0] [] h := run_succ gd_P0 d 141 [.ref v0] h (Nat.le_of_ble_eq_true rfl)
theorem x142_0 (d : Nat) (L st : List Value) (h : gd_H) : go gd_P0 d 142 0 L st h = gs gd_P0 d 142 0 L (i_ald 0 1 L st h) := go_eq gd_P0 d 142 0 L st h
theorem x142_1 (d : Nat) (L st : List Value) (h : gd_H) : go gd_P0 d 142 1 L st h = gs gd_P0 d 142 1 L (i_dup 2 L st h) := go_eq gd_P0 d 142 1 L st h
theorem x142_2 (d : Nat) (L st : List Value) (h : gd_H) : go gd_P0 d 142 2 L st h = gs gd_P0 d 142 2 L (i_getI 22 1 5 L st h) := go_eq gd_P0 d 142 2 L st h
theorem x142_5 (d : Nat) (L st : List Value) (h : gd_H) : go gd_P0 d 142 5 L st h = gs gd_P0 d 142 5 L (i_psh (.int 1) 6 L st h) := go_eq gd_P0 d 142 5 L st h
theorem x142_6 (d : Nat) (L st : List Value) (h : gd_H) : go gd_P0 d 142 6 L st h = gs gd_P0 d 142 6 L (i_iadd 7 L st h) := go_eq gd_P0 d 142 6 L st h
theorem x142_7 (d : Nat) (L st : List Value) (h : gd_H) : go gd_P0 d 142 7 L st h = gs gd_P0 d 142 7 L (i_putI 22 1 10 L st h) := go_eq gd_P0 d 142 7 L st h
theorem x142_10 (d : Nat) (L st : List Value) (h : gd_H) : go gd_P0 d 142 10 L st h = gs gd_P0 d 142 10 L (i_ald 1 11 L st h) := go_eq gd_P0 d 142 10 L st h
theorem x142_11 (d : Nat) (L st : List Value) (h : gd_H) : go gd_P0 d 142 11 L st h = gs gd_P0 d 142 11 L (i_ald 0 12 L st h) := go_eq gd_P0 d 142 11 L st h
theorem x142_12 (d : Nat) (L st : List Value) (h : gd_H) : go gd_P0 d 142 12 L st h = gs gd_P0 d 142 12 L (i_cF gd_tkU 1 15 L st h) := go_eq gd_P0 d 142 12 L st h
theorem x142_15 (d : Nat) (L st : List Value) (h : gd_H) : go gd_P0 d 142 15 L st h = gs gd_P0 d 142 15 L (i_msk [false, false] (i_ret) L st h) := go_eq gd_P0 d 142 15 L st h
theorem s142_0 (d : Nat) (h : gd_H) (v0 : Nat) (v1 : Nat) : go gd_P0 d 142 0 [.ref v0, .ref v1] [] h =
    if gT h v0 = 22 then if gT h v0 = 22 then match slk gd_tkU (gT h v1) with
    | some k9 => gc gd_P0 d 142 12 15 [.ref v0, .ref v1] [] (run gd_P0 d k9 [.ref v1, .ref v0] (wI h (up1 (gI h) v0 1 ((gI h v0 1) + 1))))
    | none => none else none else none :=
  (x142_0 ..).trans ((x142_1 ..).trans ((x142_2 ..).trans ((gs_if ..).trans (ic9 ((x142_5 ..).trans ((x142_6 ..).trans ((x142_7 ..).trans ((gs_if ..).trans (ic9 ((x142_10 ..).trans ((x142_11 ..).trans ((x142_12 ..).trans (gs_cF rfl (Nat.le_of_ble_eq_true rfl))))) rfl))))) rfl))))
theorem s142_15 (d : Nat) (h : gd_H) (w0 : Value) (w1 : Value) : go gd_P0 d 142 15 [w0, w1] [] h =
    some (.inl none, h) :=
  (x142_15 ..)
theorem r142 (d : Nat) (h : gd_H) (v0 : Nat) (v1 : Nat) : run gd_P0 (d + 1) 142 [.ref v0, .ref v1] h = go gd_P0 d 142 0 [.ref v0, .ref v1] [] h := run_succ gd_P0 d 142 [.ref v0, .ref v1] h (Nat.le_of_ble_eq_true rfl)
theorem x143_0 (d : Nat) (L st : List Value) (h : gd_H) : go gd_P0 d 143 0 L st h = gs gd_P0 d 143 0 L (i_ild 1 1 L st h) := go_eq gd_P0 d 143 0 L st h
theorem x143_1 (d : Nat) (L st : List Value) (h : gd_H) : go gd_P0 d 143 1 L st h = gs gd_P0 d 143 1 L (i_ifeq 17 4 L st h) := go_eq gd_P0 d 143 1 L st h
theorem x143_4 (d : Nat) (L st : List Value) (h : gd_H) : go gd_P0 d 143 4 L st h = gs gd_P0 d 143 4 L (i_ald 0 5 L st h) := go_eq gd_P0 d 143 4 L st h
theorem x143_5 (d : Nat) (L st : List Value) (h : gd_H) : go gd_P0 d 143 5 L st h = gs gd_P0 d 143 5 L (i_dup 6 L st h) := go_eq gd_P0 d 143 5 L st h
theorem x143_6 (d : Nat) (L st : List Value) (h : gd_H) : go gd_P0 d 143 6 L st h = gs gd_P0 d 143 6 L (i_getI 22 2 9 L st h) := go_eq gd_P0 d 143 6 L st h
theorem x143_9 (d : Nat) (L st : List Value) (h : gd_H) : go gd_P0 d 143 9 L st h = gs gd_P0 d 143 9 L (i_psh (.int 1) 10 L st h) := go_eq gd_P0 d 143 9 L st h
theorem x143_10 (d : Nat) (L st : List Value) (h : gd_H) : go gd_P0 d 143 10 L st h = gs gd_P0 d 143 10 L (i_iadd 11 L st h) := go_eq gd_P0 d 143 10 L st h
theorem x143_11 (d : Nat) (L st : List Value) (h : gd_H) : go gd_P0 d 143 11 L st h = gs gd_P0 d 143 11 L (i_putI 22 2 14 L st h) := go_eq gd_P0 d 143 11 L st h
theorem x143_14 (d : Nat) (L st : List Value) (h : gd_H) : go gd_P0 d 143 14 L st h = gs gd_P0 d 143 14 L (i_goto 27 L st h) := go_eq gd_P0 d 143 14 L st h
theorem x143_17 (d : Nat) (L st : List Value) (h : gd_H) : go gd_P0 d 143 17 L st h = gs gd_P0 d 143 17 L (i_ald 0 18 L st h) := go_eq gd_P0 d 143 17 L st h
theorem x143_18 (d : Nat) (L st : List Value) (h : gd_H) : go gd_P0 d 143 18 L st h = gs gd_P0 d 143 18 L (i_dup 19 L st h) := go_eq gd_P0 d 143 18 L st h
theorem x143_19 (d : Nat) (L st : List Value) (h : gd_H) : go gd_P0 d 143 19 L st h = gs gd_P0 d 143 19 L (i_getI 22 3 22 L st h) := go_eq gd_P0 d 143 19 L st h
theorem x143_22 (d : Nat) (L st : List Value) (h : gd_H) : go gd_P0 d 143 22 L st h = gs gd_P0 d 143 22 L (i_psh (.int 1) 23 L st h) := go_eq gd_P0 d 143 22 L st h
theorem x143_23 (d : Nat) (L st : List Value) (h : gd_H) : go gd_P0 d 143 23 L st h = gs gd_P0 d 143 23 L (i_iadd 24 L st h) := go_eq gd_P0 d 143 23 L st h
theorem x143_24 (d : Nat) (L st : List Value) (h : gd_H) : go gd_P0 d 143 24 L st h = gs gd_P0 d 143 24 L (i_putI 22 3 27 L st h) := go_eq gd_P0 d 143 24 L st h
theorem x143_27 (d : Nat) (L st : List Value) (h : gd_H) : go gd_P0 d 143 27 L st h = gs gd_P0 d 143 27 L (i_msk [false, false] (i_ret) L st h) := go_eq gd_P0 d 143 27 L st h
theorem s143_0 (d : Nat) (h : gd_H) (v0 : Nat) (v1 : Int32) : go gd_P0 d 143 0 [.ref v0, .int v1] [] h =
    if v1 = 0 then if gT h v0 = 22 then if gT h v0 = 22 then go gd_P0 d 143 27 [.ref v0, .int v1] [] (wI h (up1 (gI h) v0 3 ((gI h v0 3) + 1))) else none else none else if gT h v0 = 22 then if gT h v0 = 22 then go gd_P0 d 143 27 [.ref v0, .int v1] [] (wI h (up1 (gI h) v0 2 ((gI h v0 2) + 1))) else none else none :=
  (x143_0 ..).trans ((x143_1 ..).trans ((gs_if ..).trans (ic9 ((x143_17 ..).trans ((x143_18 ..).trans ((x143_19 ..).trans ((gs_if ..).trans (ic9 ((x143_22 ..).trans ((x143_23 ..).trans ((x143_24 ..).trans ((gs_if ..).trans (ic9 (rfl) rfl))))) rfl))))) ((x143_4 ..).trans ((x143_5 ..).trans ((x143_6 ..).trans ((gs_if ..).trans (ic9 ((x143_9 ..).trans ((x143_10 ..).trans ((x143_11 ..).trans ((gs_if ..).trans (ic9 ((x143_14 ..)) rfl))))) rfl))))))))
theorem s143_27 (d : Nat) (h : gd_H) (w0 : Value) (w1 : Value) : go gd_P0 d 143 27 [w0, w1] [] h =
    some (.inl none, h) :=
  (x143_27 ..)
theorem r143 (d : Nat) (h : gd_H) (v0 : Nat) (v1 : Int32) : run gd_P0 (d + 1) 143 [.ref v0, .int v1] h = go gd_P0 d 143 0 [.ref v0, .int v1] [] h := run_succ gd_P0 d 143 [.ref v0, .int v1] h (Nat.le_of_ble_eq_true rfl)
theorem x144_0 (d : Nat) (L st : List Value) (h : gd_H) : go gd_P0 d 144 0 L st h = gs gd_P0 d 144 0 L (i_ald 0 1 L st h) := go_eq gd_P0 d 144 0 L st h
theorem x144_1 (d : Nat) (L st : List Value) (h : gd_H) : go gd_P0 d 144 1 L st h = gs gd_P0 d 144 1 L (i_oin 4 L st h) := go_eq gd_P0 d 144 1 L st h
theorem x144_4 (d : Nat) (L st : List Value) (h : gd_H) : go gd_P0 d 144 4 L st h = gs gd_P0 d 144 4 L (i_msk [true, true, false] (i_ald 0 5) L st h) := go_eq gd_P0 d 144 4 L st h
theorem x144_5 (d : Nat) (L st : List Value) (h : gd_H) : go gd_P0 d 144 5 L st h = gs gd_P0 d 144 5 L (i_psh (.int 17) 7 L st h) := go_eq gd_P0 d 144 5 L st h
theorem x144_7 (d : Nat) (L st : List Value) (h : gd_H) : go gd_P0 d 144 7 L st h = gs gd_P0 d 144 7 L (i_newa 35 10 L st h) := go_eq gd_P0 d 144 7 L st h
theorem x144_10 (d : Nat) (L st : List Value) (h : gd_H) : go gd_P0 d 144 10 L st h = gs gd_P0 d 144 10 L (i_putR 3 0 13 L st h) := go_eq gd_P0 d 144 10 L st h
theorem x144_13 (d : Nat) (L st : List Value) (h : gd_H) : go gd_P0 d 144 13 L st h = gs gd_P0 d 144 13 L (i_psh (.int 0) 14 L st h) := go_eq gd_P0 d 144 13 L st h
theorem x144_14 (d : Nat) (L st : List Value) (h : gd_H) : go gd_P0 d 144 14 L st h = gs gd_P0 d 144 14 L (i_ist 2 15 L st h) := go_eq gd_P0 d 144 14 L st h
theorem x144_15 (d : Nat) (L st : List Value) (h : gd_H) : go gd_P0 d 144 15 L st h = gs gd_P0 d 144 15 L (i_msk [true, true, true] (i_ild 2 16) L st h) := go_eq gd_P0 d 144 15 L st h
theorem x144_16 (d : Nat) (L st : List Value) (h : gd_H) : go gd_P0 d 144 16 L st h = gs gd_P0 d 144 16 L (i_psh (.int 16) 18 L st h) := go_eq gd_P0 d 144 16 L st h
theorem x144_18 (d : Nat) (L st : List Value) (h : gd_H) : go gd_P0 d 144 18 L st h = gs gd_P0 d 144 18 L (i_icgt 41 21 L st h) := go_eq gd_P0 d 144 18 L st h
theorem x144_21 (d : Nat) (L st : List Value) (h : gd_H) : go gd_P0 d 144 21 L st h = gs gd_P0 d 144 21 L (i_ald 0 22 L st h) := go_eq gd_P0 d 144 21 L st h
theorem x144_22 (d : Nat) (L st : List Value) (h : gd_H) : go gd_P0 d 144 22 L st h = gs gd_P0 d 144 22 L (i_getR 3 0 25 L st h) := go_eq gd_P0 d 144 22 L st h
theorem x144_25 (d : Nat) (L st : List Value) (h : gd_H) : go gd_P0 d 144 25 L st h = gs gd_P0 d 144 25 L (i_ild 2 26 L st h) := go_eq gd_P0 d 144 25 L st h
theorem x144_26 (d : Nat) (L st : List Value) (h : gd_H) : go gd_P0 d 144 26 L st h = gs gd_P0 d 144 26 L (i_new 4 14 29 L st h) := go_eq gd_P0 d 144 26 L st h
theorem x144_29 (d : Nat) (L st : List Value) (h : gd_H) : go gd_P0 d 144 29 L st h = gs gd_P0 d 144 29 L (i_dup 30 L st h) := go_eq gd_P0 d 144 29 L st h
theorem x144_30 (d : Nat) (L st : List Value) (h : gd_H) : go gd_P0 d 144 30 L st h = gs gd_P0 d 144 30 L (i_ald 1 31 L st h) := go_eq gd_P0 d 144 30 L st h
theorem x144_31 (d : Nat) (L st : List Value) (h : gd_H) : go gd_P0 d 144 31 L st h = gs gd_P0 d 144 31 L (i_cV 147 1 4 34 L st h) := go_eq gd_P0 d 144 31 L st h
theorem x144_34 (d : Nat) (L st : List Value) (h : gd_H) : go gd_P0 d 144 34 L st h = gs gd_P0 d 144 34 L (i_msk [true, true, true] (i_astR 35 [4] 35) L st h) := go_eq gd_P0 d 144 34 L st h
theorem x144_35 (d : Nat) (L st : List Value) (h : gd_H) : go gd_P0 d 144 35 L st h = gs gd_P0 d 144 35 L (i_inc 2 1 38 L st h) := go_eq gd_P0 d 144 35 L st h
theorem x144_38 (d : Nat) (L st : List Value) (h : gd_H) : go gd_P0 d 144 38 L st h = gs gd_P0 d 144 38 L (i_goto 15 L st h) := go_eq gd_P0 d 144 38 L st h
theorem x144_41 (d : Nat) (L st : List Value) (h : gd_H) : go gd_P0 d 144 41 L st h = gs gd_P0 d 144 41 L (i_ret L st h) := go_eq gd_P0 d 144 41 L st h
theorem s144_0 (d : Nat) (h : gd_H) (v0 : Nat) (v1 : Nat) : go gd_P0 d 144 0 [.ref v0, .ref v1, .null] [] h =
    if 4 ≤ v0 then go gd_P0 d 144 4 [.ref v0, .ref v1, .null] [] h else none :=
  (x144_0 ..).trans ((x144_1 ..).trans ((gs_if ..).trans ((ia9 (by simp)).trans (ic9 (rfl) rfl))))
theorem s144_4 (d : Nat) (h : gd_H) (v0 : Nat) (v1 : Nat) (w2 : Value) : go gd_P0 d 144 4 [.ref v0, .ref v1, w2] [] h =
    if gT (nw h 35 (Int32.toNatClampNeg 17) (Int32.toNatClampNeg 17)) v0 = 3 then go gd_P0 d 144 15 [.ref v0, .ref v1, .int 0] [] (wR (nw h 35 (Int32.toNatClampNeg 17) (Int32.toNatClampNeg 17)) (up1 (gR (nw h 35 (Int32.toNatClampNeg 17) (Int32.toNatClampNeg 17))) v0 0 (gS h))) else none :=
  (x144_4 ..).trans ((x144_5 ..).trans ((x144_7 ..).trans ((x144_10 ..).trans ((gs_if ..).trans (ic9 ((x144_13 ..).trans ((x144_14 ..))) rfl)))))
theorem s144_15 (d : Nat) (h : gd_H) (v0 : Nat) (v1 : Nat) (v2 : Int32) : go gd_P0 d 144 15 [.ref v0, .ref v1, .int v2] [] h =
    if 16 < v2 then some (.inl none, h) else if gT h v0 = 3 then if gT (nw h 4 0 14) (gS h) = 4 then gc gd_P0 d 144 31 34 [.ref v0, .ref v1, .int v2] [.ref (gS h), .int v2, .ref (gR h v0 0)] (run gd_P0 d 147 [.ref (gS h), .ref v1] (nw h 4 0 14)) else none else none :=
  (x144_15 ..).trans ((x144_16 ..).trans ((x144_18 ..).trans ((gs_if ..).trans (ic9 ((x144_41 ..)) ((x144_21 ..).trans ((x144_22 ..).trans ((gs_if ..).trans (ic9 ((x144_25 ..).trans ((x144_26 ..).trans ((x144_29 ..).trans ((x144_30 ..).trans ((x144_31 ..).trans ((gs_if ..).trans ((ia9 (by simp)).trans (ic9 rfl rfl)))))))) rfl))))))))
theorem s144_34 (d : Nat) (h : gd_H) (v0 : Nat) (v1 : Nat) (v2 : Int32) (z0 : Nat) (z1 : Int32) (z2 : Nat) : go gd_P0 d 144 34 [.ref v0, .ref v1, .int v2] [.ref z0, .int z1, .ref z2] h =
    if gT h z2 = 35 ∧ (gT h z0 ∈ ([4] : List Nat) ∧ ¬ (z1 < 0 ∨ gL h z2 ≤ Int32.toNatClampNeg z1)) then go gd_P0 d 144 15 [.ref v0, .ref v1, .int (v2 + 1)] [] (wR h (up1 (gR h) z2 (Int32.toNatClampNeg z1) z0)) else none :=
  (x144_34 ..).trans ((gs_nif ..).trans (ic9 ((x144_35 ..).trans ((x144_38 ..))) rfl))
theorem r144 (d : Nat) (h : gd_H) (v0 : Nat) (v1 : Nat) : run gd_P0 (d + 1) 144 [.ref v0, .ref v1] h = go gd_P0 d 144 0 [.ref v0, .ref v1, .null] [] h := run_succ gd_P0 d 144 [.ref v0, .ref v1] h (Nat.le_of_ble_eq_true rfl)
theorem x145_0 (d : Nat) (L st : List Value) (h : gd_H) : go gd_P0 d 145 0 L st h = gs gd_P0 d 145 0 L (i_ald 0 1 L st h) := go_eq gd_P0 d 145 0 L st h
theorem x145_1 (d : Nat) (L st : List Value) (h : gd_H) : go gd_P0 d 145 1 L st h = gs gd_P0 d 145 1 L (i_getR 3 0 4 L st h) := go_eq gd_P0 d 145 1 L st h
theorem x145_4 (d : Nat) (L st : List Value) (h : gd_H) : go gd_P0 d 145 4 L st h = gs gd_P0 d 145 4 L (i_ald 0 5 L st h) := go_eq gd_P0 d 145 4 L st h
theorem x145_5 (d : Nat) (L st : List Value) (h : gd_H) : go gd_P0 d 145 5 L st h = gs gd_P0 d 145 5 L (i_getI 3 1 8 L st h) := go_eq gd_P0 d 145 5 L st h
theorem x145_8 (d : Nat) (L st : List Value) (h : gd_H) : go gd_P0 d 145 8 L st h = gs gd_P0 d 145 8 L (i_aldR 35 9 L st h) := go_eq gd_P0 d 145 8 L st h
theorem x145_9 (d : Nat) (L st : List Value) (h : gd_H) : go gd_P0 d 145 9 L st h = gs gd_P0 d 145 9 L (i_aret L st h) := go_eq gd_P0 d 145 9 L st h
theorem s145_0 (d : Nat) (h : gd_H) (v0 : Nat) : go gd_P0 d 145 0 [.ref v0] [] h =
    if gT h v0 = 3 then if gT h v0 = 3 then if gT h (gR h v0 0) = 35 ∧ ¬ ((gI h v0 1) < 0 ∨ gL h (gR h v0 0) ≤ Int32.toNatClampNeg (gI h v0 1)) then some (.inl (some (.ref (gR h (gR h v0 0) (Int32.toNatClampNeg (gI h v0 1))))), h) else none else none else none :=
  (x145_0 ..).trans ((x145_1 ..).trans ((gs_if ..).trans (ic9 ((x145_4 ..).trans ((x145_5 ..).trans ((gs_if ..).trans (ic9 ((x145_8 ..).trans ((gs_if ..).trans (ic9 ((x145_9 ..)) rfl))) rfl)))) rfl)))
theorem r145 (d : Nat) (h : gd_H) (v0 : Nat) : run gd_P0 (d + 1) 145 [.ref v0] h = go gd_P0 d 145 0 [.ref v0] [] h := run_succ gd_P0 d 145 [.ref v0] h (Nat.le_of_ble_eq_true rfl)
theorem x146_0 (d : Nat) (L st : List Value) (h : gd_H) : go gd_P0 d 146 0 L st h = gs gd_P0 d 146 0 L (i_ald 0 1 L st h) := go_eq gd_P0 d 146 0 L st h
theorem x146_1 (d : Nat) (L st : List Value) (h : gd_H) : go gd_P0 d 146 1 L st h = gs gd_P0 d 146 1 L (i_ald 1 2 L st h) := go_eq gd_P0 d 146 1 L st h
theorem x146_2 (d : Nat) (L st : List Value) (h : gd_H) : go gd_P0 d 146 2 L st h = gs gd_P0 d 146 2 L (i_getI 3 1 5 L st h) := go_eq gd_P0 d 146 2 L st h
theorem x146_5 (d : Nat) (L st : List Value) (h : gd_H) : go gd_P0 d 146 5 L st h = gs gd_P0 d 146 5 L (i_putI 3 1 8 L st h) := go_eq gd_P0 d 146 5 L st h
theorem x146_8 (d : Nat) (L st : List Value) (h : gd_H) : go gd_P0 d 146 8 L st h = gs gd_P0 d 146 8 L (i_psh (.int 0) 9 L st h) := go_eq gd_P0 d 146 8 L st h
theorem x146_9 (d : Nat) (L st : List Value) (h : gd_H) : go gd_P0 d 146 9 L st h = gs gd_P0 d 146 9 L (i_ist 2 10 L st h) := go_eq gd_P0 d 146 9 L st h
theorem x146_10 (d : Nat) (L st : List Value) (h : gd_H) : go gd_P0 d 146 10 L st h = gs gd_P0 d 146 10 L (i_msk [true, true, true] (i_ild 2 11) L st h) := go_eq gd_P0 d 146 10 L st h
theorem x146_11 (d : Nat) (L st : List Value) (h : gd_H) : go gd_P0 d 146 11 L st h = gs gd_P0 d 146 11 L (i_ald 0 12 L st h) := go_eq gd_P0 d 146 11 L st h
theorem x146_12 (d : Nat) (L st : List Value) (h : gd_H) : go gd_P0 d 146 12 L st h = gs gd_P0 d 146 12 L (i_getI 3 1 15 L st h) := go_eq gd_P0 d 146 12 L st h
theorem x146_15 (d : Nat) (L st : List Value) (h : gd_H) : go gd_P0 d 146 15 L st h = gs gd_P0 d 146 15 L (i_icgt 40 18 L st h) := go_eq gd_P0 d 146 15 L st h
theorem x146_18 (d : Nat) (L st : List Value) (h : gd_H) : go gd_P0 d 146 18 L st h = gs gd_P0 d 146 18 L (i_ald 0 19 L st h) := go_eq gd_P0 d 146 18 L st h
theorem x146_19 (d : Nat) (L st : List Value) (h : gd_H) : go gd_P0 d 146 19 L st h = gs gd_P0 d 146 19 L (i_getR 3 0 22 L st h) := go_eq gd_P0 d 146 19 L st h
theorem x146_22 (d : Nat) (L st : List Value) (h : gd_H) : go gd_P0 d 146 22 L st h = gs gd_P0 d 146 22 L (i_ild 2 23 L st h) := go_eq gd_P0 d 146 22 L st h
theorem x146_23 (d : Nat) (L st : List Value) (h : gd_H) : go gd_P0 d 146 23 L st h = gs gd_P0 d 146 23 L (i_aldR 35 24 L st h) := go_eq gd_P0 d 146 23 L st h
theorem x146_24 (d : Nat) (L st : List Value) (h : gd_H) : go gd_P0 d 146 24 L st h = gs gd_P0 d 146 24 L (i_ald 1 25 L st h) := go_eq gd_P0 d 146 24 L st h
theorem x146_25 (d : Nat) (L st : List Value) (h : gd_H) : go gd_P0 d 146 25 L st h = gs gd_P0 d 146 25 L (i_getR 3 0 28 L st h) := go_eq gd_P0 d 146 25 L st h
theorem x146_28 (d : Nat) (L st : List Value) (h : gd_H) : go gd_P0 d 146 28 L st h = gs gd_P0 d 146 28 L (i_ild 2 29 L st h) := go_eq gd_P0 d 146 28 L st h
theorem x146_29 (d : Nat) (L st : List Value) (h : gd_H) : go gd_P0 d 146 29 L st h = gs gd_P0 d 146 29 L (i_aldR 35 30 L st h) := go_eq gd_P0 d 146 29 L st h
theorem x146_30 (d : Nat) (L st : List Value) (h : gd_H) : go gd_P0 d 146 30 L st h = gs gd_P0 d 146 30 L (i_cV 150 1 4 33 L st h) := go_eq gd_P0 d 146 30 L st h
theorem x146_33 (d : Nat) (L st : List Value) (h : gd_H) : go gd_P0 d 146 33 L st h = gs gd_P0 d 146 33 L (i_msk [true, true, true] (i_pop 34) L st h) := go_eq gd_P0 d 146 33 L st h
theorem x146_34 (d : Nat) (L st : List Value) (h : gd_H) : go gd_P0 d 146 34 L st h = gs gd_P0 d 146 34 L (i_inc 2 1 37 L st h) := go_eq gd_P0 d 146 34 L st h
theorem x146_37 (d : Nat) (L st : List Value) (h : gd_H) : go gd_P0 d 146 37 L st h = gs gd_P0 d 146 37 L (i_goto 10 L st h) := go_eq gd_P0 d 146 37 L st h
theorem x146_40 (d : Nat) (L st : List Value) (h : gd_H) : go gd_P0 d 146 40 L st h = gs gd_P0 d 146 40 L (i_ret L st h) := go_eq gd_P0 d 146 40 L st h
theorem s146_0 (d : Nat) (h : gd_H) (v0 : Nat) (v1 : Nat) : go gd_P0 d 146 0 [.ref v0, .ref v1, .null] [] h =
    if gT h v1 = 3 then if gT h v0 = 3 then go gd_P0 d 146 10 [.ref v0, .ref v1, .int 0] [] (wI h (up1 (gI h) v0 1 (gI h v1 1))) else none else none :=
  (x146_0 ..).trans ((x146_1 ..).trans ((x146_2 ..).trans ((gs_if ..).trans (ic9 ((x146_5 ..).trans ((gs_if ..).trans (ic9 ((x146_8 ..).trans ((x146_9 ..))) rfl))) rfl))))
theorem s146_10 (d : Nat) (h : gd_H) (v0 : Nat) (v1 : Nat) (v2 : Int32) : go gd_P0 d 146 10 [.ref v0, .ref v1, .int v2] [] h =
    if gT h v0 = 3 then if (gI h v0 1) < v2 then some (.inl none, h) else if gT h v0 = 3 then if gT h (gR h v0 0) = 35 ∧ ¬ (v2 < 0 ∨ gL h (gR h v0 0) ≤ Int32.toNatClampNeg v2) then if gT h v1 = 3 then if gT h (gR h v1 0) = 35 ∧ ¬ (v2 < 0 ∨ gL h (gR h v1 0) ≤ Int32.toNatClampNeg v2) then if gT h (gR h (gR h v0 0) (Int32.toNatClampNeg v2)) = 4 then gc gd_P0 d 146 30 33 [.ref v0, .ref v1, .int v2] [] (run gd_P0 d 150 [.ref (gR h (gR h v0 0) (Int32.toNatClampNeg v2)), .ref (gR h (gR h v1 0) (Int32.toNatClampNeg v2))] h) else none else none else none else none else none else none :=
  (x146_10 ..).trans ((x146_11 ..).trans ((x146_12 ..).trans ((gs_if ..).trans (ic9 ((x146_15 ..).trans ((gs_if ..).trans (ic9 ((x146_40 ..)) ((x146_18 ..).trans ((x146_19 ..).trans ((gs_if ..).trans (ic9 ((x146_22 ..).trans ((x146_23 ..).trans ((gs_if ..).trans (ic9 ((x146_24 ..).trans ((x146_25 ..).trans ((gs_if ..).trans (ic9 ((x146_28 ..).trans ((x146_29 ..).trans ((gs_if ..).trans (ic9 ((x146_30 ..).trans ((gs_if ..).trans ((ia9 (by simp)).trans (ic9 rfl rfl)))) rfl)))) rfl)))) rfl)))) rfl))))))) rfl))))
theorem s146_33 (d : Nat) (h : gd_H) (v0 : Nat) (v1 : Nat) (v2 : Int32) (z0 : Nat) : go gd_P0 d 146 33 [.ref v0, .ref v1, .int v2] [.ref z0] h =
    go gd_P0 d 146 10 [.ref v0, .ref v1, .int (v2 + 1)] [] h :=
  (x146_33 ..).trans ((x146_34 ..).trans ((x146_37 ..)))
theorem r146 (d : Nat) (h : gd_H) (v0 : Nat) (v1 : Nat) : run gd_P0 (d + 1) 146 [.ref v0, .ref v1] h = go gd_P0 d 146 0 [.ref v0, .ref v1, .null] [] h := run_succ gd_P0 d 146 [.ref v0, .ref v1] h (Nat.le_of_ble_eq_true rfl)
theorem x147_0 (d : Nat) (L st : List Value) (h : gd_H) : go gd_P0 d 147 0 L st h = gs gd_P0 d 147 0 L (i_ald 0 1 L st h) := go_eq gd_P0 d 147 0 L st h
theorem x147_1 (d : Nat) (L st : List Value) (h : gd_H) : go gd_P0 d 147 1 L st h = gs gd_P0 d 147 1 L (i_oin 4 L st h) := go_eq gd_P0 d 147 1 L st h
theorem x147_4 (d : Nat) (L st : List Value) (h : gd_H) : go gd_P0 d 147 4 L st h = gs gd_P0 d 147 4 L (i_msk [true, true] (i_ald 0 5) L st h) := go_eq gd_P0 d 147 4 L st h
theorem x147_5 (d : Nat) (L st : List Value) (h : gd_H) : go gd_P0 d 147 5 L st h = gs gd_P0 d 147 5 L (i_psh (.int 6) 7 L st h) := go_eq gd_P0 d 147 5 L st h
theorem x147_7 (d : Nat) (L st : List Value) (h : gd_H) : go gd_P0 d 147 7 L st h = gs gd_P0 d 147 7 L (i_newa 31 9 L st h) := go_eq gd_P0 d 147 7 L st h
theorem x147_9 (d : Nat) (L st : List Value) (h : gd_H) : go gd_P0 d 147 9 L st h = gs gd_P0 d 147 9 L (i_putR 4 0 12 L st h) := go_eq gd_P0 d 147 9 L st h
theorem x147_12 (d : Nat) (L st : List Value) (h : gd_H) : go gd_P0 d 147 12 L st h = gs gd_P0 d 147 12 L (i_ald 0 13 L st h) := go_eq gd_P0 d 147 12 L st h
theorem x147_13 (d : Nat) (L st : List Value) (h : gd_H) : go gd_P0 d 147 13 L st h = gs gd_P0 d 147 13 L (i_psh (.int 7) 15 L st h) := go_eq gd_P0 d 147 13 L st h
theorem x147_15 (d : Nat) (L st : List Value) (h : gd_H) : go gd_P0 d 147 15 L st h = gs gd_P0 d 147 15 L (i_newa 31 17 L st h) := go_eq gd_P0 d 147 15 L st h
theorem x147_17 (d : Nat) (L st : List Value) (h : gd_H) : go gd_P0 d 147 17 L st h = gs gd_P0 d 147 17 L (i_putR 4 1 20 L st h) := go_eq gd_P0 d 147 17 L st h
theorem x147_20 (d : Nat) (L st : List Value) (h : gd_H) : go gd_P0 d 147 20 L st h = gs gd_P0 d 147 20 L (i_ald 0 21 L st h) := go_eq gd_P0 d 147 20 L st h
theorem x147_21 (d : Nat) (L st : List Value) (h : gd_H) : go gd_P0 d 147 21 L st h = gs gd_P0 d 147 21 L (i_psh (.int 7) 23 L st h) := go_eq gd_P0 d 147 21 L st h
theorem x147_23 (d : Nat) (L st : List Value) (h : gd_H) : go gd_P0 d 147 23 L st h = gs gd_P0 d 147 23 L (i_newa 31 25 L st h) := go_eq gd_P0 d 147 23 L st h
theorem x147_25 (d : Nat) (L st : List Value) (h : gd_H) : go gd_P0 d 147 25 L st h = gs gd_P0 d 147 25 L (i_putR 4 2 28 L st h) := go_eq gd_P0 d 147 25 L st h
theorem x147_28 (d : Nat) (L st : List Value) (h : gd_H) : go gd_P0 d 147 28 L st h = gs gd_P0 d 147 28 L (i_ald 0 29 L st h) := go_eq gd_P0 d 147 28 L st h
theorem x147_29 (d : Nat) (L st : List Value) (h : gd_H) : go gd_P0 d 147 29 L st h = gs gd_P0 d 147 29 L (i_psh (.int 7) 31 L st h) := go_eq gd_P0 d 147 29 L st h
theorem x147_31 (d : Nat) (L st : List Value) (h : gd_H) : go gd_P0 d 147 31 L st h = gs gd_P0 d 147 31 L (i_newa 31 33 L st h) := go_eq gd_P0 d 147 31 L st h
theorem x147_33 (d : Nat) (L st : List Value) (h : gd_H) : go gd_P0 d 147 33 L st h = gs gd_P0 d 147 33 L (i_putR 4 3 36 L st h) := go_eq gd_P0 d 147 33 L st h
theorem x147_36 (d : Nat) (L st : List Value) (h : gd_H) : go gd_P0 d 147 36 L st h = gs gd_P0 d 147 36 L (i_ald 0 37 L st h) := go_eq gd_P0 d 147 36 L st h
theorem x147_37 (d : Nat) (L st : List Value) (h : gd_H) : go gd_P0 d 147 37 L st h = gs gd_P0 d 147 37 L (i_psh (.int 7) 39 L st h) := go_eq gd_P0 d 147 37 L st h
theorem x147_39 (d : Nat) (L st : List Value) (h : gd_H) : go gd_P0 d 147 39 L st h = gs gd_P0 d 147 39 L (i_newa 31 41 L st h) := go_eq gd_P0 d 147 39 L st h
theorem x147_41 (d : Nat) (L st : List Value) (h : gd_H) : go gd_P0 d 147 41 L st h = gs gd_P0 d 147 41 L (i_putR 4 4 44 L st h) := go_eq gd_P0 d 147 41 L st h
theorem x147_44 (d : Nat) (L st : List Value) (h : gd_H) : go gd_P0 d 147 44 L st h = gs gd_P0 d 147 44 L (i_ald 0 45 L st h) := go_eq gd_P0 d 147 44 L st h
theorem x147_45 (d : Nat) (L st : List Value) (h : gd_H) : go gd_P0 d 147 45 L st h = gs gd_P0 d 147 45 L (i_psh (.int 7) 47 L st h) := go_eq gd_P0 d 147 45 L st h
theorem x147_47 (d : Nat) (L st : List Value) (h : gd_H) : go gd_P0 d 147 47 L st h = gs gd_P0 d 147 47 L (i_newa 31 49 L st h) := go_eq gd_P0 d 147 47 L st h
theorem x147_49 (d : Nat) (L st : List Value) (h : gd_H) : go gd_P0 d 147 49 L st h = gs gd_P0 d 147 49 L (i_putR 4 5 52 L st h) := go_eq gd_P0 d 147 49 L st h
theorem x147_52 (d : Nat) (L st : List Value) (h : gd_H) : go gd_P0 d 147 52 L st h = gs gd_P0 d 147 52 L (i_ald 0 53 L st h) := go_eq gd_P0 d 147 52 L st h
theorem x147_53 (d : Nat) (L st : List Value) (h : gd_H) : go gd_P0 d 147 53 L st h = gs gd_P0 d 147 53 L (i_psh (.int 7) 55 L st h) := go_eq gd_P0 d 147 53 L st h
theorem x147_55 (d : Nat) (L st : List Value) (h : gd_H) : go gd_P0 d 147 55 L st h = gs gd_P0 d 147 55 L (i_newa 31 57 L st h) := go_eq gd_P0 d 147 55 L st h
theorem x147_57 (d : Nat) (L st : List Value) (h : gd_H) : go gd_P0 d 147 57 L st h = gs gd_P0 d 147 57 L (i_putR 4 6 60 L st h) := go_eq gd_P0 d 147 57 L st h
theorem x147_60 (d : Nat) (L st : List Value) (h : gd_H) : go gd_P0 d 147 60 L st h = gs gd_P0 d 147 60 L (i_ald 0 61 L st h) := go_eq gd_P0 d 147 60 L st h
theorem x147_61 (d : Nat) (L st : List Value) (h : gd_H) : go gd_P0 d 147 61 L st h = gs gd_P0 d 147 61 L (i_new 5 8 64 L st h) := go_eq gd_P0 d 147 61 L st h
theorem x147_64 (d : Nat) (L st : List Value) (h : gd_H) : go gd_P0 d 147 64 L st h = gs gd_P0 d 147 64 L (i_dup 65 L st h) := go_eq gd_P0 d 147 64 L st h
theorem x147_65 (d : Nat) (L st : List Value) (h : gd_H) : go gd_P0 d 147 65 L st h = gs gd_P0 d 147 65 L (i_cV 169 0 5 68 L st h) := go_eq gd_P0 d 147 65 L st h
theorem x147_68 (d : Nat) (L st : List Value) (h : gd_H) : go gd_P0 d 147 68 L st h = gs gd_P0 d 147 68 L (i_msk [true, true] (i_putR 4 7 71) L st h) := go_eq gd_P0 d 147 68 L st h
theorem x147_71 (d : Nat) (L st : List Value) (h : gd_H) : go gd_P0 d 147 71 L st h = gs gd_P0 d 147 71 L (i_ald 0 72 L st h) := go_eq gd_P0 d 147 71 L st h
theorem x147_72 (d : Nat) (L st : List Value) (h : gd_H) : go gd_P0 d 147 72 L st h = gs gd_P0 d 147 72 L (i_new 6 8 75 L st h) := go_eq gd_P0 d 147 72 L st h
theorem x147_75 (d : Nat) (L st : List Value) (h : gd_H) : go gd_P0 d 147 75 L st h = gs gd_P0 d 147 75 L (i_dup 76 L st h) := go_eq gd_P0 d 147 75 L st h
theorem x147_76 (d : Nat) (L st : List Value) (h : gd_H) : go gd_P0 d 147 76 L st h = gs gd_P0 d 147 76 L (i_cV 171 0 6 79 L st h) := go_eq gd_P0 d 147 76 L st h
theorem x147_79 (d : Nat) (L st : List Value) (h : gd_H) : go gd_P0 d 147 79 L st h = gs gd_P0 d 147 79 L (i_msk [true, true] (i_putR 4 9 82) L st h) := go_eq gd_P0 d 147 79 L st h
theorem x147_82 (d : Nat) (L st : List Value) (h : gd_H) : go gd_P0 d 147 82 L st h = gs gd_P0 d 147 82 L (i_ald 0 83 L st h) := go_eq gd_P0 d 147 82 L st h
theorem x147_83 (d : Nat) (L st : List Value) (h : gd_H) : go gd_P0 d 147 83 L st h = gs gd_P0 d 147 83 L (i_ald 1 84 L st h) := go_eq gd_P0 d 147 83 L st h
theorem x147_84 (d : Nat) (L st : List Value) (h : gd_H) : go gd_P0 d 147 84 L st h = gs gd_P0 d 147 84 L (i_putR 4 8 87 L st h) := go_eq gd_P0 d 147 84 L st h
theorem x147_87 (d : Nat) (L st : List Value) (h : gd_H) : go gd_P0 d 147 87 L st h = gs gd_P0 d 147 87 L (i_ret L st h) := go_eq gd_P0 d 147 87 L st h
theorem s147_0 (d : Nat) (h : gd_H) (v0 : Nat) (v1 : Nat) : go gd_P0 d 147 0 [.ref v0, .ref v1] [] h =
    if 4 ≤ v0 then go gd_P0 d 147 4 [.ref v0, .ref v1] [] h else none :=
  (x147_0 ..).trans ((x147_1 ..).trans ((gs_if ..).trans ((ia9 (by simp)).trans (ic9 (rfl) rfl))))
theorem s147_4 (d : Nat) (h : gd_H) (v0 : Nat) (v1 : Nat) : go gd_P0 d 147 4 [.ref v0, .ref v1] [] h =
    go gd_P0 d 147 9 [.ref v0, .ref v1] [.ref (gS h), .ref v0] (nw h 31 (Int32.toNatClampNeg 6) (Int32.toNatClampNeg 6)) :=
  (x147_4 ..).trans ((x147_5 ..).trans ((x147_7 ..)))
theorem s147_9 (d : Nat) (h : gd_H) (v0 : Nat) (v1 : Nat) (z0 : Nat) (z1 : Nat) : go gd_P0 d 147 9 [.ref v0, .ref v1] [.ref z0, .ref z1] h =
    if gT h z1 = 4 then go gd_P0 d 147 17 [.ref v0, .ref v1] [.ref (gS h), .ref v0] (nw (wR h (up1 (gR h) z1 0 z0)) 31 (Int32.toNatClampNeg 7) (Int32.toNatClampNeg 7)) else none :=
  (x147_9 ..).trans ((gs_if ..).trans (ic9 ((x147_12 ..).trans ((x147_13 ..).trans ((x147_15 ..)))) rfl))
theorem s147_17 (d : Nat) (h : gd_H) (v0 : Nat) (v1 : Nat) (z0 : Nat) (z1 : Nat) : go gd_P0 d 147 17 [.ref v0, .ref v1] [.ref z0, .ref z1] h =
    if gT h z1 = 4 then go gd_P0 d 147 25 [.ref v0, .ref v1] [.ref (gS h), .ref v0] (nw (wR h (up1 (gR h) z1 1 z0)) 31 (Int32.toNatClampNeg 7) (Int32.toNatClampNeg 7)) else none :=
  (x147_17 ..).trans ((gs_if ..).trans (ic9 ((x147_20 ..).trans ((x147_21 ..).trans ((x147_23 ..)))) rfl))
theorem s147_25 (d : Nat) (h : gd_H) (v0 : Nat) (v1 : Nat) (z0 : Nat) (z1 : Nat) : go gd_P0 d 147 25 [.ref v0, .ref v1] [.ref z0, .ref z1] h =
    if gT h z1 = 4 then go gd_P0 d 147 33 [.ref v0, .ref v1] [.ref (gS h), .ref v0] (nw (wR h (up1 (gR h) z1 2 z0)) 31 (Int32.toNatClampNeg 7) (Int32.toNatClampNeg 7)) else none :=
  (x147_25 ..).trans ((gs_if ..).trans (ic9 ((x147_28 ..).trans ((x147_29 ..).trans ((x147_31 ..)))) rfl))
theorem s147_33 (d : Nat) (h : gd_H) (v0 : Nat) (v1 : Nat) (z0 : Nat) (z1 : Nat) : go gd_P0 d 147 33 [.ref v0, .ref v1] [.ref z0, .ref z1] h =
    if gT h z1 = 4 then go gd_P0 d 147 41 [.ref v0, .ref v1] [.ref (gS h), .ref v0] (nw (wR h (up1 (gR h) z1 3 z0)) 31 (Int32.toNatClampNeg 7) (Int32.toNatClampNeg 7)) else none :=
  (x147_33 ..).trans ((gs_if ..).trans (ic9 ((x147_36 ..).trans ((x147_37 ..).trans ((x147_39 ..)))) rfl))
theorem s147_41 (d : Nat) (h : gd_H) (v0 : Nat) (v1 : Nat) (z0 : Nat) (z1 : Nat) : go gd_P0 d 147 41 [.ref v0, .ref v1] [.ref z0, .ref z1] h =
    if gT h z1 = 4 then go gd_P0 d 147 49 [.ref v0, .ref v1] [.ref (gS h), .ref v0] (nw (wR h (up1 (gR h) z1 4 z0)) 31 (Int32.toNatClampNeg 7) (Int32.toNatClampNeg 7)) else none :=
  (x147_41 ..).trans ((gs_if ..).trans (ic9 ((x147_44 ..).trans ((x147_45 ..).trans ((x147_47 ..)))) rfl))
theorem s147_49 (d : Nat) (h : gd_H) (v0 : Nat) (v1 : Nat) (z0 : Nat) (z1 : Nat) : go gd_P0 d 147 49 [.ref v0, .ref v1] [.ref z0, .ref z1] h =
    if gT h z1 = 4 then go gd_P0 d 147 57 [.ref v0, .ref v1] [.ref (gS h), .ref v0] (nw (wR h (up1 (gR h) z1 5 z0)) 31 (Int32.toNatClampNeg 7) (Int32.toNatClampNeg 7)) else none :=
  (x147_49 ..).trans ((gs_if ..).trans (ic9 ((x147_52 ..).trans ((x147_53 ..).trans ((x147_55 ..)))) rfl))
theorem s147_57 (d : Nat) (h : gd_H) (v0 : Nat) (v1 : Nat) (z0 : Nat) (z1 : Nat) : go gd_P0 d 147 57 [.ref v0, .ref v1] [.ref z0, .ref z1] h =
    if gT h z1 = 4 then go gd_P0 d 147 64 [.ref v0, .ref v1] [.ref (gS h), .ref v0] (nw (wR h (up1 (gR h) z1 6 z0)) 5 0 8) else none :=
  (x147_57 ..).trans ((gs_if ..).trans (ic9 ((x147_60 ..).trans ((x147_61 ..))) rfl))
theorem s147_64 (d : Nat) (h : gd_H) (v0 : Nat) (v1 : Nat) (z0 : Nat) (z1 : Nat) : go gd_P0 d 147 64 [.ref v0, .ref v1] [.ref z0, .ref z1] h =
    if gT h z0 = 5 then gc gd_P0 d 147 65 68 [.ref v0, .ref v1] [.ref z0, .ref z1] (run gd_P0 d 169 [.ref z0] h) else none :=
  (x147_64 ..).trans ((x147_65 ..).trans ((gs_if ..).trans ((ia9 (by simp)).trans (ic9 rfl rfl))))
theorem s147_68 (d : Nat) (h : gd_H) (v0 : Nat) (v1 : Nat) (z0 : Nat) (z1 : Nat) : go gd_P0 d 147 68 [.ref v0, .ref v1] [.ref z0, .ref z1] h =
    if gT h z1 = 4 then go gd_P0 d 147 75 [.ref v0, .ref v1] [.ref (gS h), .ref v0] (nw (wR h (up1 (gR h) z1 7 z0)) 6 0 8) else none :=
  (x147_68 ..).trans ((gs_nif ..).trans (ic9 ((x147_71 ..).trans ((x147_72 ..))) rfl))
theorem s147_75 (d : Nat) (h : gd_H) (v0 : Nat) (v1 : Nat) (z0 : Nat) (z1 : Nat) : go gd_P0 d 147 75 [.ref v0, .ref v1] [.ref z0, .ref z1] h =
    if gT h z0 = 6 then gc gd_P0 d 147 76 79 [.ref v0, .ref v1] [.ref z0, .ref z1] (run gd_P0 d 171 [.ref z0] h) else none :=
  (x147_75 ..).trans ((x147_76 ..).trans ((gs_if ..).trans ((ia9 (by simp)).trans (ic9 rfl rfl))))
theorem s147_79 (d : Nat) (h : gd_H) (v0 : Nat) (v1 : Nat) (z0 : Nat) (z1 : Nat) : go gd_P0 d 147 79 [.ref v0, .ref v1] [.ref z0, .ref z1] h =
    if gT h z1 = 4 then if gT h v0 = 4 then some (.inl none, (wR h (up1 (up1 (gR h) z1 9 z0) v0 8 v1))) else none else none :=
  (x147_79 ..).trans ((gs_nif ..).trans (ic9 ((x147_82 ..).trans ((x147_83 ..).trans ((x147_84 ..).trans ((gs_if ..).trans (ic9 ((x147_87 ..)) rfl))))) rfl))
theorem r147 (d : Nat) (h : gd_H) (v0 : Nat) (v1 : Nat) : run gd_P0 (d + 1) 147 [.ref v0, .ref v1] h = go gd_P0 d 147 0 [.ref v0, .ref v1] [] h := run_succ gd_P0 d 147 [.ref v0, .ref v1] h (Nat.le_of_ble_eq_true rfl)
theorem x148_0 (d : Nat) (L st : List Value) (h : gd_H) : go gd_P0 d 148 0 L st h = gs gd_P0 d 148 0 L (i_ald 0 1 L st h) := go_eq gd_P0 d 148 0 L st h
theorem x148_1 (d : Nat) (L st : List Value) (h : gd_H) : go gd_P0 d 148 1 L st h = gs gd_P0 d 148 1 L (i_ald 1 2 L st h) := go_eq gd_P0 d 148 1 L st h
theorem x148_2 (d : Nat) (L st : List Value) (h : gd_H) : go gd_P0 d 148 2 L st h = gs gd_P0 d 148 2 L (i_putR 4 9 5 L st h) := go_eq gd_P0 d 148 2 L st h
theorem x148_5 (d : Nat) (L st : List Value) (h : gd_H) : go gd_P0 d 148 5 L st h = gs gd_P0 d 148 5 L (i_ald 0 6 L st h) := go_eq gd_P0 d 148 5 L st h
theorem x148_6 (d : Nat) (L st : List Value) (h : gd_H) : go gd_P0 d 148 6 L st h = gs gd_P0 d 148 6 L (i_psh (.int 0) 7 L st h) := go_eq gd_P0 d 148 6 L st h
theorem x148_7 (d : Nat) (L st : List Value) (h : gd_H) : go gd_P0 d 148 7 L st h = gs gd_P0 d 148 7 L (i_putI 4 10 10 L st h) := go_eq gd_P0 d 148 7 L st h
theorem x148_10 (d : Nat) (L st : List Value) (h : gd_H) : go gd_P0 d 148 10 L st h = gs gd_P0 d 148 10 L (i_ald 0 11 L st h) := go_eq gd_P0 d 148 10 L st h
theorem x148_11 (d : Nat) (L st : List Value) (h : gd_H) : go gd_P0 d 148 11 L st h = gs gd_P0 d 148 11 L (i_psh (.int 0) 12 L st h) := go_eq gd_P0 d 148 11 L st h
theorem x148_12 (d : Nat) (L st : List Value) (h : gd_H) : go gd_P0 d 148 12 L st h = gs gd_P0 d 148 12 L (i_putI 4 11 15 L st h) := go_eq gd_P0 d 148 12 L st h
theorem x148_15 (d : Nat) (L st : List Value) (h : gd_H) : go gd_P0 d 148 15 L st h = gs gd_P0 d 148 15 L (i_ald 0 16 L st h) := go_eq gd_P0 d 148 15 L st h
theorem x148_16 (d : Nat) (L st : List Value) (h : gd_H) : go gd_P0 d 148 16 L st h = gs gd_P0 d 148 16 L (i_psh (.int 0) 17 L st h) := go_eq gd_P0 d 148 16 L st h
theorem x148_17 (d : Nat) (L st : List Value) (h : gd_H) : go gd_P0 d 148 17 L st h = gs gd_P0 d 148 17 L (i_putI 4 12 20 L st h) := go_eq gd_P0 d 148 17 L st h
theorem x148_20 (d : Nat) (L st : List Value) (h : gd_H) : go gd_P0 d 148 20 L st h = gs gd_P0 d 148 20 L (i_ald 0 21 L st h) := go_eq gd_P0 d 148 20 L st h
theorem x148_21 (d : Nat) (L st : List Value) (h : gd_H) : go gd_P0 d 148 21 L st h = gs gd_P0 d 148 21 L (i_psh (.int (-1)) 22 L st h) := go_eq gd_P0 d 148 21 L st h
theorem x148_22 (d : Nat) (L st : List Value) (h : gd_H) : go gd_P0 d 148 22 L st h = gs gd_P0 d 148 22 L (i_putI 4 13 25 L st h) := go_eq gd_P0 d 148 22 L st h
theorem x148_25 (d : Nat) (L st : List Value) (h : gd_H) : go gd_P0 d 148 25 L st h = gs gd_P0 d 148 25 L (i_ald 1 26 L st h) := go_eq gd_P0 d 148 25 L st h
theorem x148_26 (d : Nat) (L st : List Value) (h : gd_H) : go gd_P0 d 148 26 L st h = gs gd_P0 d 148 26 L (i_getR 6 0 29 L st h) := go_eq gd_P0 d 148 26 L st h
theorem x148_29 (d : Nat) (L st : List Value) (h : gd_H) : go gd_P0 d 148 29 L st h = gs gd_P0 d 148 29 L (i_psh (.int 0) 30 L st h) := go_eq gd_P0 d 148 29 L st h
theorem x148_30 (d : Nat) (L st : List Value) (h : gd_H) : go gd_P0 d 148 30 L st h = gs gd_P0 d 148 30 L (i_ald 0 31 L st h) := go_eq gd_P0 d 148 30 L st h
theorem x148_31 (d : Nat) (L st : List Value) (h : gd_H) : go gd_P0 d 148 31 L st h = gs gd_P0 d 148 31 L (i_getR 4 0 34 L st h) := go_eq gd_P0 d 148 31 L st h
theorem x148_34 (d : Nat) (L st : List Value) (h : gd_H) : go gd_P0 d 148 34 L st h = gs gd_P0 d 148 34 L (i_psh (.int 0) 35 L st h) := go_eq gd_P0 d 148 34 L st h
theorem x148_35 (d : Nat) (L st : List Value) (h : gd_H) : go gd_P0 d 148 35 L st h = gs gd_P0 d 148 35 L (i_psh (.int 6) 37 L st h) := go_eq gd_P0 d 148 35 L st h
theorem x148_37 (d : Nat) (L st : List Value) (h : gd_H) : go gd_P0 d 148 37 L st h = gs gd_P0 d 148 37 L (i_acp 40 L st h) := go_eq gd_P0 d 148 37 L st h
theorem x148_40 (d : Nat) (L st : List Value) (h : gd_H) : go gd_P0 d 148 40 L st h = gs gd_P0 d 148 40 L (i_msk [true, true, false] (i_ald 1 41) L st h) := go_eq gd_P0 d 148 40 L st h
theorem x148_41 (d : Nat) (L st : List Value) (h : gd_H) : go gd_P0 d 148 41 L st h = gs gd_P0 d 148 41 L (i_getR 6 2 44 L st h) := go_eq gd_P0 d 148 41 L st h
theorem x148_44 (d : Nat) (L st : List Value) (h : gd_H) : go gd_P0 d 148 44 L st h = gs gd_P0 d 148 44 L (i_psh (.int 0) 45 L st h) := go_eq gd_P0 d 148 44 L st h
theorem x148_45 (d : Nat) (L st : List Value) (h : gd_H) : go gd_P0 d 148 45 L st h = gs gd_P0 d 148 45 L (i_ald 0 46 L st h) := go_eq gd_P0 d 148 45 L st h
theorem x148_46 (d : Nat) (L st : List Value) (h : gd_H) : go gd_P0 d 148 46 L st h = gs gd_P0 d 148 46 L (i_getR 4 1 49 L st h) := go_eq gd_P0 d 148 46 L st h
theorem x148_49 (d : Nat) (L st : List Value) (h : gd_H) : go gd_P0 d 148 49 L st h = gs gd_P0 d 148 49 L (i_psh (.int 0) 50 L st h) := go_eq gd_P0 d 148 49 L st h
theorem x148_50 (d : Nat) (L st : List Value) (h : gd_H) : go gd_P0 d 148 50 L st h = gs gd_P0 d 148 50 L (i_psh (.int 7) 52 L st h) := go_eq gd_P0 d 148 50 L st h
theorem x148_52 (d : Nat) (L st : List Value) (h : gd_H) : go gd_P0 d 148 52 L st h = gs gd_P0 d 148 52 L (i_acp 55 L st h) := go_eq gd_P0 d 148 52 L st h
theorem x148_55 (d : Nat) (L st : List Value) (h : gd_H) : go gd_P0 d 148 55 L st h = gs gd_P0 d 148 55 L (i_msk [true, true, false] (i_ald 1 56) L st h) := go_eq gd_P0 d 148 55 L st h
theorem x148_56 (d : Nat) (L st : List Value) (h : gd_H) : go gd_P0 d 148 56 L st h = gs gd_P0 d 148 56 L (i_getR 6 3 59 L st h) := go_eq gd_P0 d 148 56 L st h
theorem x148_59 (d : Nat) (L st : List Value) (h : gd_H) : go gd_P0 d 148 59 L st h = gs gd_P0 d 148 59 L (i_psh (.int 0) 60 L st h) := go_eq gd_P0 d 148 59 L st h
theorem x148_60 (d : Nat) (L st : List Value) (h : gd_H) : go gd_P0 d 148 60 L st h = gs gd_P0 d 148 60 L (i_ald 0 61 L st h) := go_eq gd_P0 d 148 60 L st h
theorem x148_61 (d : Nat) (L st : List Value) (h : gd_H) : go gd_P0 d 148 61 L st h = gs gd_P0 d 148 61 L (i_getR 4 2 64 L st h) := go_eq gd_P0 d 148 61 L st h
theorem x148_64 (d : Nat) (L st : List Value) (h : gd_H) : go gd_P0 d 148 64 L st h = gs gd_P0 d 148 64 L (i_psh (.int 0) 65 L st h) := go_eq gd_P0 d 148 64 L st h
theorem x148_65 (d : Nat) (L st : List Value) (h : gd_H) : go gd_P0 d 148 65 L st h = gs gd_P0 d 148 65 L (i_psh (.int 7) 67 L st h) := go_eq gd_P0 d 148 65 L st h
theorem x148_67 (d : Nat) (L st : List Value) (h : gd_H) : go gd_P0 d 148 67 L st h = gs gd_P0 d 148 67 L (i_acp 70 L st h) := go_eq gd_P0 d 148 67 L st h
theorem x148_70 (d : Nat) (L st : List Value) (h : gd_H) : go gd_P0 d 148 70 L st h = gs gd_P0 d 148 70 L (i_msk [true, false, false] (i_psh (.int 0) 71) L st h) := go_eq gd_P0 d 148 70 L st h
theorem x148_71 (d : Nat) (L st : List Value) (h : gd_H) : go gd_P0 d 148 71 L st h = gs gd_P0 d 148 71 L (i_ist 2 72 L st h) := go_eq gd_P0 d 148 71 L st h
theorem x148_72 (d : Nat) (L st : List Value) (h : gd_H) : go gd_P0 d 148 72 L st h = gs gd_P0 d 148 72 L (i_msk [true, false, true] (i_ild 2 73) L st h) := go_eq gd_P0 d 148 72 L st h
theorem x148_73 (d : Nat) (L st : List Value) (h : gd_H) : go gd_P0 d 148 73 L st h = gs gd_P0 d 148 73 L (i_psh (.int 7) 75 L st h) := go_eq gd_P0 d 148 73 L st h
theorem x148_75 (d : Nat) (L st : List Value) (h : gd_H) : go gd_P0 d 148 75 L st h = gs gd_P0 d 148 75 L (i_icge 105 78 L st h) := go_eq gd_P0 d 148 75 L st h
theorem x148_78 (d : Nat) (L st : List Value) (h : gd_H) : go gd_P0 d 148 78 L st h = gs gd_P0 d 148 78 L (i_ald 0 79 L st h) := go_eq gd_P0 d 148 78 L st h
theorem x148_79 (d : Nat) (L st : List Value) (h : gd_H) : go gd_P0 d 148 79 L st h = gs gd_P0 d 148 79 L (i_getR 4 3 82 L st h) := go_eq gd_P0 d 148 79 L st h
theorem x148_82 (d : Nat) (L st : List Value) (h : gd_H) : go gd_P0 d 148 82 L st h = gs gd_P0 d 148 82 L (i_ild 2 83 L st h) := go_eq gd_P0 d 148 82 L st h
theorem x148_83 (d : Nat) (L st : List Value) (h : gd_H) : go gd_P0 d 148 83 L st h = gs gd_P0 d 148 83 L (i_psh (.int (-1)) 84 L st h) := go_eq gd_P0 d 148 83 L st h
theorem x148_84 (d : Nat) (L st : List Value) (h : gd_H) : go gd_P0 d 148 84 L st h = gs gd_P0 d 148 84 L (i_astI 85 L st h) := go_eq gd_P0 d 148 84 L st h
theorem x148_85 (d : Nat) (L st : List Value) (h : gd_H) : go gd_P0 d 148 85 L st h = gs gd_P0 d 148 85 L (i_ald 0 86 L st h) := go_eq gd_P0 d 148 85 L st h
theorem x148_86 (d : Nat) (L st : List Value) (h : gd_H) : go gd_P0 d 148 86 L st h = gs gd_P0 d 148 86 L (i_getR 4 4 89 L st h) := go_eq gd_P0 d 148 86 L st h
theorem x148_89 (d : Nat) (L st : List Value) (h : gd_H) : go gd_P0 d 148 89 L st h = gs gd_P0 d 148 89 L (i_ild 2 90 L st h) := go_eq gd_P0 d 148 89 L st h
theorem x148_90 (d : Nat) (L st : List Value) (h : gd_H) : go gd_P0 d 148 90 L st h = gs gd_P0 d 148 90 L (i_psh (.int 0) 91 L st h) := go_eq gd_P0 d 148 90 L st h
theorem x148_91 (d : Nat) (L st : List Value) (h : gd_H) : go gd_P0 d 148 91 L st h = gs gd_P0 d 148 91 L (i_astI 92 L st h) := go_eq gd_P0 d 148 91 L st h
theorem x148_92 (d : Nat) (L st : List Value) (h : gd_H) : go gd_P0 d 148 92 L st h = gs gd_P0 d 148 92 L (i_ald 0 93 L st h) := go_eq gd_P0 d 148 92 L st h
theorem x148_93 (d : Nat) (L st : List Value) (h : gd_H) : go gd_P0 d 148 93 L st h = gs gd_P0 d 148 93 L (i_getR 4 5 96 L st h) := go_eq gd_P0 d 148 93 L st h
theorem x148_96 (d : Nat) (L st : List Value) (h : gd_H) : go gd_P0 d 148 96 L st h = gs gd_P0 d 148 96 L (i_ild 2 97 L st h) := go_eq gd_P0 d 148 96 L st h
theorem x148_97 (d : Nat) (L st : List Value) (h : gd_H) : go gd_P0 d 148 97 L st h = gs gd_P0 d 148 97 L (i_psh (.int (-1)) 98 L st h) := go_eq gd_P0 d 148 97 L st h
theorem x148_98 (d : Nat) (L st : List Value) (h : gd_H) : go gd_P0 d 148 98 L st h = gs gd_P0 d 148 98 L (i_astI 99 L st h) := go_eq gd_P0 d 148 98 L st h
theorem x148_99 (d : Nat) (L st : List Value) (h : gd_H) : go gd_P0 d 148 99 L st h = gs gd_P0 d 148 99 L (i_inc 2 1 102 L st h) := go_eq gd_P0 d 148 99 L st h
theorem x148_102 (d : Nat) (L st : List Value) (h : gd_H) : go gd_P0 d 148 102 L st h = gs gd_P0 d 148 102 L (i_goto 72 L st h) := go_eq gd_P0 d 148 102 L st h
theorem x148_105 (d : Nat) (L st : List Value) (h : gd_H) : go gd_P0 d 148 105 L st h = gs gd_P0 d 148 105 L (i_ret L st h) := go_eq gd_P0 d 148 105 L st h
theorem s148_0 (d : Nat) (h : gd_H) (v0 : Nat) (v1 : Nat) : go gd_P0 d 148 0 [.ref v0, .ref v1, .null] [] h =
    if gT h v0 = 4 then if gT h v0 = 4 then if gT h v0 = 4 then if gT h v0 = 4 then if gT h v0 = 4 then if gT h v1 = 6 then if gT h v0 = 4 then if (gT h ((up1 (gR h) v0 9 v1) v1 0) = 31 ∧ gT h ((up1 (gR h) v0 9 v1) v0 0) = 31) ∧ ((¬ (0 : Int32) < 0 ∧ ¬ (0 : Int32) < 0) ∧ (¬ (6 : Int32) < 0 ∧ (Int32.toNatClampNeg 0 + Int32.toNatClampNeg 6 ≤ gL h ((up1 (gR h) v0 9 v1) v1 0) ∧ Int32.toNatClampNeg 0 + Int32.toNatClampNeg 6 ≤ gL h ((up1 (gR h) v0 9 v1) v0 0)))) then go gd_P0 d 148 40 [.ref v0, .ref v1, .null] [] (wR (wI h (cpy (up1 (up1 (up1 (up1 (gI h) v0 10 0) v0 11 0) v0 12 0) v0 13 (-1)) ((up1 (gR h) v0 9 v1) v1 0) (Int32.toNatClampNeg 0) ((up1 (gR h) v0 9 v1) v0 0) (Int32.toNatClampNeg 0) (Int32.toNatClampNeg 6))) (up1 (gR h) v0 9 v1)) else none else none else none else none else none else none else none else none :=
  (x148_0 ..).trans ((x148_1 ..).trans ((x148_2 ..).trans ((gs_if ..).trans (ic9 ((x148_5 ..).trans ((x148_6 ..).trans ((x148_7 ..).trans ((gs_if ..).trans (ic9 ((x148_10 ..).trans ((x148_11 ..).trans ((x148_12 ..).trans ((gs_if ..).trans (ic9 ((x148_15 ..).trans ((x148_16 ..).trans ((x148_17 ..).trans ((gs_if ..).trans (ic9 ((x148_20 ..).trans ((x148_21 ..).trans ((x148_22 ..).trans ((gs_if ..).trans (ic9 ((x148_25 ..).trans ((x148_26 ..).trans ((gs_if ..).trans (ic9 ((x148_29 ..).trans ((x148_30 ..).trans ((x148_31 ..).trans ((gs_if ..).trans (ic9 ((x148_34 ..).trans ((x148_35 ..).trans ((x148_37 ..).trans ((gs_if ..).trans (ic9 (rfl) rfl))))) rfl))))) rfl)))) rfl))))) rfl))))) rfl))))) rfl))))) rfl))))
theorem s148_40 (d : Nat) (h : gd_H) (v0 : Nat) (v1 : Nat) (w2 : Value) : go gd_P0 d 148 40 [.ref v0, .ref v1, w2] [] h =
    if gT h v1 = 6 then if gT h v0 = 4 then if (gT h (gR h v1 2) = 31 ∧ gT h (gR h v0 1) = 31) ∧ ((¬ (0 : Int32) < 0 ∧ ¬ (0 : Int32) < 0) ∧ (¬ (7 : Int32) < 0 ∧ (Int32.toNatClampNeg 0 + Int32.toNatClampNeg 7 ≤ gL h (gR h v1 2) ∧ Int32.toNatClampNeg 0 + Int32.toNatClampNeg 7 ≤ gL h (gR h v0 1)))) then go gd_P0 d 148 55 [.ref v0, .ref v1, .null] [] (wI h (cpy (gI h) (gR h v1 2) (Int32.toNatClampNeg 0) (gR h v0 1) (Int32.toNatClampNeg 0) (Int32.toNatClampNeg 7))) else none else none else none :=
  (x148_40 ..).trans ((x148_41 ..).trans ((gs_if ..).trans (ic9 ((x148_44 ..).trans ((x148_45 ..).trans ((x148_46 ..).trans ((gs_if ..).trans (ic9 ((x148_49 ..).trans ((x148_50 ..).trans ((x148_52 ..).trans ((gs_if ..).trans (ic9 (rfl) rfl))))) rfl))))) rfl)))
theorem s148_55 (d : Nat) (h : gd_H) (v0 : Nat) (v1 : Nat) (w2 : Value) : go gd_P0 d 148 55 [.ref v0, .ref v1, w2] [] h =
    if gT h v1 = 6 then if gT h v0 = 4 then if (gT h (gR h v1 3) = 31 ∧ gT h (gR h v0 2) = 31) ∧ ((¬ (0 : Int32) < 0 ∧ ¬ (0 : Int32) < 0) ∧ (¬ (7 : Int32) < 0 ∧ (Int32.toNatClampNeg 0 + Int32.toNatClampNeg 7 ≤ gL h (gR h v1 3) ∧ Int32.toNatClampNeg 0 + Int32.toNatClampNeg 7 ≤ gL h (gR h v0 2)))) then go gd_P0 d 148 70 [.ref v0, .ref v1, .null] [] (wI h (cpy (gI h) (gR h v1 3) (Int32.toNatClampNeg 0) (gR h v0 2) (Int32.toNatClampNeg 0) (Int32.toNatClampNeg 7))) else none else none else none :=
  (x148_55 ..).trans ((x148_56 ..).trans ((gs_if ..).trans (ic9 ((x148_59 ..).trans ((x148_60 ..).trans ((x148_61 ..).trans ((gs_if ..).trans (ic9 ((x148_64 ..).trans ((x148_65 ..).trans ((x148_67 ..).trans ((gs_if ..).trans (ic9 (rfl) rfl))))) rfl))))) rfl)))
theorem s148_70 (d : Nat) (h : gd_H) (v0 : Nat) (w1 : Value) (w2 : Value) : go gd_P0 d 148 70 [.ref v0, w1, w2] [] h =
    go gd_P0 d 148 72 [.ref v0, .null, .int 0] [] h :=
  (x148_70 ..).trans ((x148_71 ..))
theorem s148_72 (d : Nat) (h : gd_H) (v0 : Nat) (w1 : Value) (v2 : Int32) : go gd_P0 d 148 72 [.ref v0, w1, .int v2] [] h =
    if 7 ≤ v2 then some (.inl none, h) else if gT h v0 = 4 then if gT h (gR h v0 3) = 31 ∧ ¬ (v2 < 0 ∨ gL h (gR h v0 3) ≤ Int32.toNatClampNeg v2) then if gT h v0 = 4 then if gT h (gR h v0 4) = 31 ∧ ¬ (v2 < 0 ∨ gL h (gR h v0 4) ≤ Int32.toNatClampNeg v2) then if gT h v0 = 4 then if gT h (gR h v0 5) = 31 ∧ ¬ (v2 < 0 ∨ gL h (gR h v0 5) ≤ Int32.toNatClampNeg v2) then go gd_P0 d 148 72 [.ref v0, .null, .int (v2 + 1)] [] (wI h (up1 (up1 (up1 (gI h) (gR h v0 3) (Int32.toNatClampNeg v2) (-1)) (gR h v0 4) (Int32.toNatClampNeg v2) 0) (gR h v0 5) (Int32.toNatClampNeg v2) (-1))) else none else none else none else none else none else none :=
  (x148_72 ..).trans ((x148_73 ..).trans ((x148_75 ..).trans ((gs_if ..).trans (ic9 ((x148_105 ..)) ((x148_78 ..).trans ((x148_79 ..).trans ((gs_if ..).trans (ic9 ((x148_82 ..).trans ((x148_83 ..).trans ((x148_84 ..).trans ((gs_if ..).trans (ic9 ((x148_85 ..).trans ((x148_86 ..).trans ((gs_if ..).trans (ic9 ((x148_89 ..).trans ((x148_90 ..).trans ((x148_91 ..).trans ((gs_if ..).trans (ic9 ((x148_92 ..).trans ((x148_93 ..).trans ((gs_if ..).trans (ic9 ((x148_96 ..).trans ((x148_97 ..).trans ((x148_98 ..).trans ((gs_if ..).trans (ic9 ((x148_99 ..).trans ((x148_102 ..))) rfl))))) rfl)))) rfl))))) rfl)))) rfl))))) rfl))))))))
theorem r148 (d : Nat) (h : gd_H) (v0 : Nat) (v1 : Nat) : run gd_P0 (d + 1) 148 [.ref v0, .ref v1] h = go gd_P0 d 148 0 [.ref v0, .ref v1, .null] [] h := run_succ gd_P0 d 148 [.ref v0, .ref v1] h (Nat.le_of_ble_eq_true rfl)
theorem x149_0 (d : Nat) (L st : List Value) (h : gd_H) : go gd_P0 d 149 0 L st h = gs gd_P0 d 149 0 L (i_psh (.int 1) 1 L st h) := go_eq gd_P0 d 149 0 L st h
theorem x149_1 (d : Nat) (L st : List Value) (h : gd_H) : go gd_P0 d 149 1 L st h = gs gd_P0 d 149 1 L (i_ald 0 2 L st h) := go_eq gd_P0 d 149 1 L st h
theorem x149_2 (d : Nat) (L st : List Value) (h : gd_H) : go gd_P0 d 149 2 L st h = gs gd_P0 d 149 2 L (i_getR 4 9 5 L st h) := go_eq gd_P0 d 149 2 L st h
theorem x149_5 (d : Nat) (L st : List Value) (h : gd_H) : go gd_P0 d 149 5 L st h = gs gd_P0 d 149 5 L (i_getI 6 7 8 L st h) := go_eq gd_P0 d 149 5 L st h
theorem x149_8 (d : Nat) (L st : List Value) (h : gd_H) : go gd_P0 d 149 8 L st h = gs gd_P0 d 149 8 L (i_ishl 9 L st h) := go_eq gd_P0 d 149 8 L st h
theorem x149_9 (d : Nat) (L st : List Value) (h : gd_H) : go gd_P0 d 149 9 L st h = gs gd_P0 d 149 9 L (i_psh (.int 1) 10 L st h) := go_eq gd_P0 d 149 9 L st h
theorem x149_10 (d : Nat) (L st : List Value) (h : gd_H) : go gd_P0 d 149 10 L st h = gs gd_P0 d 149 10 L (i_isub 11 L st h) := go_eq gd_P0 d 149 10 L st h
theorem x149_11 (d : Nat) (L st : List Value) (h : gd_H) : go gd_P0 d 149 11 L st h = gs gd_P0 d 149 11 L (i_ald 0 12 L st h) := go_eq gd_P0 d 149 11 L st h
theorem x149_12 (d : Nat) (L st : List Value) (h : gd_H) : go gd_P0 d 149 12 L st h = gs gd_P0 d 149 12 L (i_getI 4 12 15 L st h) := go_eq gd_P0 d 149 12 L st h
theorem x149_15 (d : Nat) (L st : List Value) (h : gd_H) : go gd_P0 d 149 15 L st h = gs gd_P0 d 149 15 L (i_psh (.int (-1)) 16 L st h) := go_eq gd_P0 d 149 15 L st h
theorem x149_16 (d : Nat) (L st : List Value) (h : gd_H) : go gd_P0 d 149 16 L st h = gs gd_P0 d 149 16 L (i_ixor 17 L st h) := go_eq gd_P0 d 149 16 L st h
theorem x149_17 (d : Nat) (L st : List Value) (h : gd_H) : go gd_P0 d 149 17 L st h = gs gd_P0 d 149 17 L (i_iand 18 L st h) := go_eq gd_P0 d 149 17 L st h
theorem x149_18 (d : Nat) (L st : List Value) (h : gd_H) : go gd_P0 d 149 18 L st h = gs gd_P0 d 149 18 L (i_iret L st h) := go_eq gd_P0 d 149 18 L st h
theorem s149_0 (d : Nat) (h : gd_H) (v0 : Nat) : go gd_P0 d 149 0 [.ref v0] [] h =
    if gT h v0 = 4 then if gT h (gR h v0 9) = 6 then if gT h v0 = 4 then some (.inl (some (.int ((((1 : Int32) <<< ((gI h (gR h v0 9) 7) &&& 31)) - 1) &&& ((gI h v0 12) ^^^ ((-1) : Int32))))), h) else none else none else none :=
  (x149_0 ..).trans ((x149_1 ..).trans ((x149_2 ..).trans ((gs_if ..).trans (ic9 ((x149_5 ..).trans ((gs_if ..).trans (ic9 ((x149_8 ..).trans ((x149_9 ..).trans ((x149_10 ..).trans ((x149_11 ..).trans ((x149_12 ..).trans ((gs_if ..).trans (ic9 ((x149_15 ..).trans ((x149_16 ..).trans ((x149_17 ..).trans ((x149_18 ..))))) rfl))))))) rfl))) rfl))))
theorem r149 (d : Nat) (h : gd_H) (v0 : Nat) : run gd_P0 (d + 1) 149 [.ref v0] h = go gd_P0 d 149 0 [.ref v0] [] h := run_succ gd_P0 d 149 [.ref v0] h (Nat.le_of_ble_eq_true rfl)
theorem x150_0 (d : Nat) (L st : List Value) (h : gd_H) : go gd_P0 d 150 0 L st h = gs gd_P0 d 150 0 L (i_ald 0 1 L st h) := go_eq gd_P0 d 150 0 L st h
theorem x150_1 (d : Nat) (L st : List Value) (h : gd_H) : go gd_P0 d 150 1 L st h = gs gd_P0 d 150 1 L (i_ald 1 2 L st h) := go_eq gd_P0 d 150 1 L st h
theorem x150_2 (d : Nat) (L st : List Value) (h : gd_H) : go gd_P0 d 150 2 L st h = gs gd_P0 d 150 2 L (i_getR 4 9 5 L st h) := go_eq gd_P0 d 150 2 L st h
theorem x150_5 (d : Nat) (L st : List Value) (h : gd_H) : go gd_P0 d 150 5 L st h = gs gd_P0 d 150 5 L (i_putR 4 9 8 L st h) := go_eq gd_P0 d 150 5 L st h
theorem x150_8 (d : Nat) (L st : List Value) (h : gd_H) : go gd_P0 d 150 8 L st h = gs gd_P0 d 150 8 L (i_ald 0 9 L st h) := go_eq gd_P0 d 150 8 L st h
theorem x150_9 (d : Nat) (L st : List Value) (h : gd_H) : go gd_P0 d 150 9 L st h = gs gd_P0 d 150 9 L (i_ald 1 10 L st h) := go_eq gd_P0 d 150 9 L st h
theorem x150_10 (d : Nat) (L st : List Value) (h : gd_H) : go gd_P0 d 150 10 L st h = gs gd_P0 d 150 10 L (i_getI 4 10 13 L st h) := go_eq gd_P0 d 150 10 L st h
theorem x150_13 (d : Nat) (L st : List Value) (h : gd_H) : go gd_P0 d 150 13 L st h = gs gd_P0 d 150 13 L (i_putI 4 10 16 L st h) := go_eq gd_P0 d 150 13 L st h
theorem x150_16 (d : Nat) (L st : List Value) (h : gd_H) : go gd_P0 d 150 16 L st h = gs gd_P0 d 150 16 L (i_ald 0 17 L st h) := go_eq gd_P0 d 150 16 L st h
theorem x150_17 (d : Nat) (L st : List Value) (h : gd_H) : go gd_P0 d 150 17 L st h = gs gd_P0 d 150 17 L (i_ald 1 18 L st h) := go_eq gd_P0 d 150 17 L st h
theorem x150_18 (d : Nat) (L st : List Value) (h : gd_H) : go gd_P0 d 150 18 L st h = gs gd_P0 d 150 18 L (i_getI 4 11 21 L st h) := go_eq gd_P0 d 150 18 L st h
theorem x150_21 (d : Nat) (L st : List Value) (h : gd_H) : go gd_P0 d 150 21 L st h = gs gd_P0 d 150 21 L (i_putI 4 11 24 L st h) := go_eq gd_P0 d 150 21 L st h
theorem x150_24 (d : Nat) (L st : List Value) (h : gd_H) : go gd_P0 d 150 24 L st h = gs gd_P0 d 150 24 L (i_ald 0 25 L st h) := go_eq gd_P0 d 150 24 L st h
theorem x150_25 (d : Nat) (L st : List Value) (h : gd_H) : go gd_P0 d 150 25 L st h = gs gd_P0 d 150 25 L (i_ald 1 26 L st h) := go_eq gd_P0 d 150 25 L st h
theorem x150_26 (d : Nat) (L st : List Value) (h : gd_H) : go gd_P0 d 150 26 L st h = gs gd_P0 d 150 26 L (i_getI 4 12 29 L st h) := go_eq gd_P0 d 150 26 L st h
theorem x150_29 (d : Nat) (L st : List Value) (h : gd_H) : go gd_P0 d 150 29 L st h = gs gd_P0 d 150 29 L (i_putI 4 12 32 L st h) := go_eq gd_P0 d 150 29 L st h
theorem x150_32 (d : Nat) (L st : List Value) (h : gd_H) : go gd_P0 d 150 32 L st h = gs gd_P0 d 150 32 L (i_ald 0 33 L st h) := go_eq gd_P0 d 150 32 L st h
theorem x150_33 (d : Nat) (L st : List Value) (h : gd_H) : go gd_P0 d 150 33 L st h = gs gd_P0 d 150 33 L (i_ald 1 34 L st h) := go_eq gd_P0 d 150 33 L st h
theorem x150_34 (d : Nat) (L st : List Value) (h : gd_H) : go gd_P0 d 150 34 L st h = gs gd_P0 d 150 34 L (i_getI 4 13 37 L st h) := go_eq gd_P0 d 150 34 L st h
theorem x150_37 (d : Nat) (L st : List Value) (h : gd_H) : go gd_P0 d 150 37 L st h = gs gd_P0 d 150 37 L (i_putI 4 13 40 L st h) := go_eq gd_P0 d 150 37 L st h
theorem x150_40 (d : Nat) (L st : List Value) (h : gd_H) : go gd_P0 d 150 40 L st h = gs gd_P0 d 150 40 L (i_ald 1 41 L st h) := go_eq gd_P0 d 150 40 L st h
theorem x150_41 (d : Nat) (L st : List Value) (h : gd_H) : go gd_P0 d 150 41 L st h = gs gd_P0 d 150 41 L (i_getR 4 0 44 L st h) := go_eq gd_P0 d 150 41 L st h
theorem x150_44 (d : Nat) (L st : List Value) (h : gd_H) : go gd_P0 d 150 44 L st h = gs gd_P0 d 150 44 L (i_psh (.int 0) 45 L st h) := go_eq gd_P0 d 150 44 L st h
theorem x150_45 (d : Nat) (L st : List Value) (h : gd_H) : go gd_P0 d 150 45 L st h = gs gd_P0 d 150 45 L (i_ald 0 46 L st h) := go_eq gd_P0 d 150 45 L st h
theorem x150_46 (d : Nat) (L st : List Value) (h : gd_H) : go gd_P0 d 150 46 L st h = gs gd_P0 d 150 46 L (i_getR 4 0 49 L st h) := go_eq gd_P0 d 150 46 L st h
theorem x150_49 (d : Nat) (L st : List Value) (h : gd_H) : go gd_P0 d 150 49 L st h = gs gd_P0 d 150 49 L (i_psh (.int 0) 50 L st h) := go_eq gd_P0 d 150 49 L st h
theorem x150_50 (d : Nat) (L st : List Value) (h : gd_H) : go gd_P0 d 150 50 L st h = gs gd_P0 d 150 50 L (i_psh (.int 6) 52 L st h) := go_eq gd_P0 d 150 50 L st h
theorem x150_52 (d : Nat) (L st : List Value) (h : gd_H) : go gd_P0 d 150 52 L st h = gs gd_P0 d 150 52 L (i_acp 55 L st h) := go_eq gd_P0 d 150 52 L st h
theorem x150_55 (d : Nat) (L st : List Value) (h : gd_H) : go gd_P0 d 150 55 L st h = gs gd_P0 d 150 55 L (i_msk [true, true] (i_ald 1 56) L st h) := go_eq gd_P0 d 150 55 L st h
theorem x150_56 (d : Nat) (L st : List Value) (h : gd_H) : go gd_P0 d 150 56 L st h = gs gd_P0 d 150 56 L (i_getR 4 1 59 L st h) := go_eq gd_P0 d 150 56 L st h
theorem x150_59 (d : Nat) (L st : List Value) (h : gd_H) : go gd_P0 d 150 59 L st h = gs gd_P0 d 150 59 L (i_psh (.int 0) 60 L st h) := go_eq gd_P0 d 150 59 L st h
theorem x150_60 (d : Nat) (L st : List Value) (h : gd_H) : go gd_P0 d 150 60 L st h = gs gd_P0 d 150 60 L (i_ald 0 61 L st h) := go_eq gd_P0 d 150 60 L st h
theorem x150_61 (d : Nat) (L st : List Value) (h : gd_H) : go gd_P0 d 150 61 L st h = gs gd_P0 d 150 61 L (i_getR 4 1 64 L st h) := go_eq gd_P0 d 150 61 L st h
theorem x150_64 (d : Nat) (L st : List Value) (h : gd_H) : go gd_P0 d 150 64 L st h = gs gd_P0 d 150 64 L (i_psh (.int 0) 65 L st h) := go_eq gd_P0 d 150 64 L st h
theorem x150_65 (d : Nat) (L st : List Value) (h : gd_H) : go gd_P0 d 150 65 L st h = gs gd_P0 d 150 65 L (i_psh (.int 7) 67 L st h) := go_eq gd_P0 d 150 65 L st h
theorem x150_67 (d : Nat) (L st : List Value) (h : gd_H) : go gd_P0 d 150 67 L st h = gs gd_P0 d 150 67 L (i_acp 70 L st h) := go_eq gd_P0 d 150 67 L st h
theorem x150_70 (d : Nat) (L st : List Value) (h : gd_H) : go gd_P0 d 150 70 L st h = gs gd_P0 d 150 70 L (i_msk [true, true] (i_ald 1 71) L st h) := go_eq gd_P0 d 150 70 L st h
theorem x150_71 (d : Nat) (L st : List Value) (h : gd_H) : go gd_P0 d 150 71 L st h = gs gd_P0 d 150 71 L (i_getR 4 2 74 L st h) := go_eq gd_P0 d 150 71 L st h
theorem x150_74 (d : Nat) (L st : List Value) (h : gd_H) : go gd_P0 d 150 74 L st h = gs gd_P0 d 150 74 L (i_psh (.int 0) 75 L st h) := go_eq gd_P0 d 150 74 L st h
theorem x150_75 (d : Nat) (L st : List Value) (h : gd_H) : go gd_P0 d 150 75 L st h = gs gd_P0 d 150 75 L (i_ald 0 76 L st h) := go_eq gd_P0 d 150 75 L st h
theorem x150_76 (d : Nat) (L st : List Value) (h : gd_H) : go gd_P0 d 150 76 L st h = gs gd_P0 d 150 76 L (i_getR 4 2 79 L st h) := go_eq gd_P0 d 150 76 L st h
theorem x150_79 (d : Nat) (L st : List Value) (h : gd_H) : go gd_P0 d 150 79 L st h = gs gd_P0 d 150 79 L (i_psh (.int 0) 80 L st h) := go_eq gd_P0 d 150 79 L st h
theorem x150_80 (d : Nat) (L st : List Value) (h : gd_H) : go gd_P0 d 150 80 L st h = gs gd_P0 d 150 80 L (i_psh (.int 7) 82 L st h) := go_eq gd_P0 d 150 80 L st h
theorem x150_82 (d : Nat) (L st : List Value) (h : gd_H) : go gd_P0 d 150 82 L st h = gs gd_P0 d 150 82 L (i_acp 85 L st h) := go_eq gd_P0 d 150 82 L st h
theorem x150_85 (d : Nat) (L st : List Value) (h : gd_H) : go gd_P0 d 150 85 L st h = gs gd_P0 d 150 85 L (i_msk [true, true] (i_ald 1 86) L st h) := go_eq gd_P0 d 150 85 L st h
theorem x150_86 (d : Nat) (L st : List Value) (h : gd_H) : go gd_P0 d 150 86 L st h = gs gd_P0 d 150 86 L (i_getR 4 3 89 L st h) := go_eq gd_P0 d 150 86 L st h
theorem x150_89 (d : Nat) (L st : List Value) (h : gd_H) : go gd_P0 d 150 89 L st h = gs gd_P0 d 150 89 L (i_psh (.int 0) 90 L st h) := go_eq gd_P0 d 150 89 L st h
theorem x150_90 (d : Nat) (L st : List Value) (h : gd_H) : go gd_P0 d 150 90 L st h = gs gd_P0 d 150 90 L (i_ald 0 91 L st h) := go_eq gd_P0 d 150 90 L st h
theorem x150_91 (d : Nat) (L st : List Value) (h : gd_H) : go gd_P0 d 150 91 L st h = gs gd_P0 d 150 91 L (i_getR 4 3 94 L st h) := go_eq gd_P0 d 150 91 L st h
theorem x150_94 (d : Nat) (L st : List Value) (h : gd_H) : go gd_P0 d 150 94 L st h = gs gd_P0 d 150 94 L (i_psh (.int 0) 95 L st h) := go_eq gd_P0 d 150 94 L st h
theorem x150_95 (d : Nat) (L st : List Value) (h : gd_H) : go gd_P0 d 150 95 L st h = gs gd_P0 d 150 95 L (i_psh (.int 7) 97 L st h) := go_eq gd_P0 d 150 95 L st h
theorem x150_97 (d : Nat) (L st : List Value) (h : gd_H) : go gd_P0 d 150 97 L st h = gs gd_P0 d 150 97 L (i_acp 100 L st h) := go_eq gd_P0 d 150 97 L st h
theorem x150_100 (d : Nat) (L st : List Value) (h : gd_H) : go gd_P0 d 150 100 L st h = gs gd_P0 d 150 100 L (i_msk [true, true] (i_ald 1 101) L st h) := go_eq gd_P0 d 150 100 L st h
theorem x150_101 (d : Nat) (L st : List Value) (h : gd_H) : go gd_P0 d 150 101 L st h = gs gd_P0 d 150 101 L (i_getR 4 4 104 L st h) := go_eq gd_P0 d 150 101 L st h
theorem x150_104 (d : Nat) (L st : List Value) (h : gd_H) : go gd_P0 d 150 104 L st h = gs gd_P0 d 150 104 L (i_psh (.int 0) 105 L st h) := go_eq gd_P0 d 150 104 L st h
theorem x150_105 (d : Nat) (L st : List Value) (h : gd_H) : go gd_P0 d 150 105 L st h = gs gd_P0 d 150 105 L (i_ald 0 106 L st h) := go_eq gd_P0 d 150 105 L st h
theorem x150_106 (d : Nat) (L st : List Value) (h : gd_H) : go gd_P0 d 150 106 L st h = gs gd_P0 d 150 106 L (i_getR 4 4 109 L st h) := go_eq gd_P0 d 150 106 L st h
theorem x150_109 (d : Nat) (L st : List Value) (h : gd_H) : go gd_P0 d 150 109 L st h = gs gd_P0 d 150 109 L (i_psh (.int 0) 110 L st h) := go_eq gd_P0 d 150 109 L st h
theorem x150_110 (d : Nat) (L st : List Value) (h : gd_H) : go gd_P0 d 150 110 L st h = gs gd_P0 d 150 110 L (i_psh (.int 7) 112 L st h) := go_eq gd_P0 d 150 110 L st h
theorem x150_112 (d : Nat) (L st : List Value) (h : gd_H) : go gd_P0 d 150 112 L st h = gs gd_P0 d 150 112 L (i_acp 115 L st h) := go_eq gd_P0 d 150 112 L st h
theorem x150_115 (d : Nat) (L st : List Value) (h : gd_H) : go gd_P0 d 150 115 L st h = gs gd_P0 d 150 115 L (i_msk [true, true] (i_ald 1 116) L st h) := go_eq gd_P0 d 150 115 L st h
theorem x150_116 (d : Nat) (L st : List Value) (h : gd_H) : go gd_P0 d 150 116 L st h = gs gd_P0 d 150 116 L (i_getR 4 5 119 L st h) := go_eq gd_P0 d 150 116 L st h
theorem x150_119 (d : Nat) (L st : List Value) (h : gd_H) : go gd_P0 d 150 119 L st h = gs gd_P0 d 150 119 L (i_psh (.int 0) 120 L st h) := go_eq gd_P0 d 150 119 L st h
theorem x150_120 (d : Nat) (L st : List Value) (h : gd_H) : go gd_P0 d 150 120 L st h = gs gd_P0 d 150 120 L (i_ald 0 121 L st h) := go_eq gd_P0 d 150 120 L st h
theorem x150_121 (d : Nat) (L st : List Value) (h : gd_H) : go gd_P0 d 150 121 L st h = gs gd_P0 d 150 121 L (i_getR 4 5 124 L st h) := go_eq gd_P0 d 150 121 L st h
theorem x150_124 (d : Nat) (L st : List Value) (h : gd_H) : go gd_P0 d 150 124 L st h = gs gd_P0 d 150 124 L (i_psh (.int 0) 125 L st h) := go_eq gd_P0 d 150 124 L st h
theorem x150_125 (d : Nat) (L st : List Value) (h : gd_H) : go gd_P0 d 150 125 L st h = gs gd_P0 d 150 125 L (i_psh (.int 7) 127 L st h) := go_eq gd_P0 d 150 125 L st h
theorem x150_127 (d : Nat) (L st : List Value) (h : gd_H) : go gd_P0 d 150 127 L st h = gs gd_P0 d 150 127 L (i_acp 130 L st h) := go_eq gd_P0 d 150 127 L st h
theorem x150_130 (d : Nat) (L st : List Value) (h : gd_H) : go gd_P0 d 150 130 L st h = gs gd_P0 d 150 130 L (i_msk [true, false] (i_ald 0 131) L st h) := go_eq gd_P0 d 150 130 L st h
theorem x150_131 (d : Nat) (L st : List Value) (h : gd_H) : go gd_P0 d 150 131 L st h = gs gd_P0 d 150 131 L (i_aret L st h) := go_eq gd_P0 d 150 131 L st h
theorem s150_0 (d : Nat) (h : gd_H) (v0 : Nat) (v1 : Nat) : go gd_P0 d 150 0 [.ref v0, .ref v1] [] h =
    if gT h v1 = 4 then if gT h v0 = 4 then if gT h v1 = 4 then if gT h v0 = 4 then if gT h v1 = 4 then if gT h v0 = 4 then if gT h v1 = 4 then if gT h v0 = 4 then if gT h v1 = 4 then if gT h v0 = 4 then if gT h v1 = 4 then if gT h v0 = 4 then if (gT h ((up1 (gR h) v0 9 (gR h v1 9)) v1 0) = 31 ∧ gT h ((up1 (gR h) v0 9 (gR h v1 9)) v0 0) = 31) ∧ ((¬ (0 : Int32) < 0 ∧ ¬ (0 : Int32) < 0) ∧ (¬ (6 : Int32) < 0 ∧ (Int32.toNatClampNeg 0 + Int32.toNatClampNeg 6 ≤ gL h ((up1 (gR h) v0 9 (gR h v1 9)) v1 0) ∧ Int32.toNatClampNeg 0 + Int32.toNatClampNeg 6 ≤ gL h ((up1 (gR h) v0 9 (gR h v1 9)) v0 0)))) then go gd_P0 d 150 55 [.ref v0, .ref v1] [] (wR (wI h (cpy (up1 (up1 (up1 (up1 (gI h) v0 10 (gI h v1 10)) v0 11 ((up1 (gI h) v0 10 (gI h v1 10)) v1 11)) v0 12 ((up1 (up1 (gI h) v0 10 (gI h v1 10)) v0 11 ((up1 (gI h) v0 10 (gI h v1 10)) v1 11)) v1 12)) v0 13 ((up1 (up1 (up1 (gI h) v0 10 (gI h v1 10)) v0 11 ((up1 (gI h) v0 10 (gI h v1 10)) v1 11)) v0 12 ((up1 (up1 (gI h) v0 10 (gI h v1 10)) v0 11 ((up1 (gI h) v0 10 (gI h v1 10)) v1 11)) v1 12)) v1 13)) ((up1 (gR h) v0 9 (gR h v1 9)) v1 0) (Int32.toNatClampNeg 0) ((up1 (gR h) v0 9 (gR h v1 9)) v0 0) (Int32.toNatClampNeg 0) (Int32.toNatClampNeg 6))) (up1 (gR h) v0 9 (gR h v1 9))) else none else none else none else none else none else none else none else none else none else none else none else none else none :=
  (x150_0 ..).trans ((x150_1 ..).trans ((x150_2 ..).trans ((gs_if ..).trans (ic9 ((x150_5 ..).trans ((gs_if ..).trans (ic9 ((x150_8 ..).trans ((x150_9 ..).trans ((x150_10 ..).trans ((gs_if ..).trans (ic9 ((x150_13 ..).trans ((gs_if ..).trans (ic9 ((x150_16 ..).trans ((x150_17 ..).trans ((x150_18 ..).trans ((gs_if ..).trans (ic9 ((x150_21 ..).trans ((gs_if ..).trans (ic9 ((x150_24 ..).trans ((x150_25 ..).trans ((x150_26 ..).trans ((gs_if ..).trans (ic9 ((x150_29 ..).trans ((gs_if ..).trans (ic9 ((x150_32 ..).trans ((x150_33 ..).trans ((x150_34 ..).trans ((gs_if ..).trans (ic9 ((x150_37 ..).trans ((gs_if ..).trans (ic9 ((x150_40 ..).trans ((x150_41 ..).trans ((gs_if ..).trans (ic9 ((x150_44 ..).trans ((x150_45 ..).trans ((x150_46 ..).trans ((gs_if ..).trans (ic9 ((x150_49 ..).trans ((x150_50 ..).trans ((x150_52 ..).trans ((gs_if ..).trans (ic9 (rfl) rfl))))) rfl))))) rfl)))) rfl))) rfl))))) rfl))) rfl))))) rfl))) rfl))))) rfl))) rfl))))) rfl))) rfl))))
theorem s150_55 (d : Nat) (h : gd_H) (v0 : Nat) (v1 : Nat) : go gd_P0 d 150 55 [.ref v0, .ref v1] [] h =
    if gT h v1 = 4 then if gT h v0 = 4 then if (gT h (gR h v1 1) = 31 ∧ gT h (gR h v0 1) = 31) ∧ ((¬ (0 : Int32) < 0 ∧ ¬ (0 : Int32) < 0) ∧ (¬ (7 : Int32) < 0 ∧ (Int32.toNatClampNeg 0 + Int32.toNatClampNeg 7 ≤ gL h (gR h v1 1) ∧ Int32.toNatClampNeg 0 + Int32.toNatClampNeg 7 ≤ gL h (gR h v0 1)))) then go gd_P0 d 150 70 [.ref v0, .ref v1] [] (wI h (cpy (gI h) (gR h v1 1) (Int32.toNatClampNeg 0) (gR h v0 1) (Int32.toNatClampNeg 0) (Int32.toNatClampNeg 7))) else none else none else none :=
  (x150_55 ..).trans ((x150_56 ..).trans ((gs_if ..).trans (ic9 ((x150_59 ..).trans ((x150_60 ..).trans ((x150_61 ..).trans ((gs_if ..).trans (ic9 ((x150_64 ..).trans ((x150_65 ..).trans ((x150_67 ..).trans ((gs_if ..).trans (ic9 (rfl) rfl))))) rfl))))) rfl)))
theorem s150_70 (d : Nat) (h : gd_H) (v0 : Nat) (v1 : Nat) : go gd_P0 d 150 70 [.ref v0, .ref v1] [] h =
    if gT h v1 = 4 then if gT h v0 = 4 then if (gT h (gR h v1 2) = 31 ∧ gT h (gR h v0 2) = 31) ∧ ((¬ (0 : Int32) < 0 ∧ ¬ (0 : Int32) < 0) ∧ (¬ (7 : Int32) < 0 ∧ (Int32.toNatClampNeg 0 + Int32.toNatClampNeg 7 ≤ gL h (gR h v1 2) ∧ Int32.toNatClampNeg 0 + Int32.toNatClampNeg 7 ≤ gL h (gR h v0 2)))) then go gd_P0 d 150 85 [.ref v0, .ref v1] [] (wI h (cpy (gI h) (gR h v1 2) (Int32.toNatClampNeg 0) (gR h v0 2) (Int32.toNatClampNeg 0) (Int32.toNatClampNeg 7))) else none else none else none :=
  (x150_70 ..).trans ((x150_71 ..).trans ((gs_if ..).trans (ic9 ((x150_74 ..).trans ((x150_75 ..).trans ((x150_76 ..).trans ((gs_if ..).trans (ic9 ((x150_79 ..).trans ((x150_80 ..).trans ((x150_82 ..).trans ((gs_if ..).trans (ic9 (rfl) rfl))))) rfl))))) rfl)))
theorem s150_85 (d : Nat) (h : gd_H) (v0 : Nat) (v1 : Nat) : go gd_P0 d 150 85 [.ref v0, .ref v1] [] h =
    if gT h v1 = 4 then if gT h v0 = 4 then if (gT h (gR h v1 3) = 31 ∧ gT h (gR h v0 3) = 31) ∧ ((¬ (0 : Int32) < 0 ∧ ¬ (0 : Int32) < 0) ∧ (¬ (7 : Int32) < 0 ∧ (Int32.toNatClampNeg 0 + Int32.toNatClampNeg 7 ≤ gL h (gR h v1 3) ∧ Int32.toNatClampNeg 0 + Int32.toNatClampNeg 7 ≤ gL h (gR h v0 3)))) then go gd_P0 d 150 100 [.ref v0, .ref v1] [] (wI h (cpy (gI h) (gR h v1 3) (Int32.toNatClampNeg 0) (gR h v0 3) (Int32.toNatClampNeg 0) (Int32.toNatClampNeg 7))) else none else none else none :=
  (x150_85 ..).trans ((x150_86 ..).trans ((gs_if ..).trans (ic9 ((x150_89 ..).trans ((x150_90 ..).trans ((x150_91 ..).trans ((gs_if ..).trans (ic9 ((x150_94 ..).trans ((x150_95 ..).trans ((x150_97 ..).trans ((gs_if ..).trans (ic9 (rfl) rfl))))) rfl))))) rfl)))
theorem s150_100 (d : Nat) (h : gd_H) (v0 : Nat) (v1 : Nat) : go gd_P0 d 150 100 [.ref v0, .ref v1] [] h =
    if gT h v1 = 4 then if gT h v0 = 4 then if (gT h (gR h v1 4) = 31 ∧ gT h (gR h v0 4) = 31) ∧ ((¬ (0 : Int32) < 0 ∧ ¬ (0 : Int32) < 0) ∧ (¬ (7 : Int32) < 0 ∧ (Int32.toNatClampNeg 0 + Int32.toNatClampNeg 7 ≤ gL h (gR h v1 4) ∧ Int32.toNatClampNeg 0 + Int32.toNatClampNeg 7 ≤ gL h (gR h v0 4)))) then go gd_P0 d 150 115 [.ref v0, .ref v1] [] (wI h (cpy (gI h) (gR h v1 4) (Int32.toNatClampNeg 0) (gR h v0 4) (Int32.toNatClampNeg 0) (Int32.toNatClampNeg 7))) else none else none else none :=
  (x150_100 ..).trans ((x150_101 ..).trans ((gs_if ..).trans (ic9 ((x150_104 ..).trans ((x150_105 ..).trans ((x150_106 ..).trans ((gs_if ..).trans (ic9 ((x150_109 ..).trans ((x150_110 ..).trans ((x150_112 ..).trans ((gs_if ..).trans (ic9 (rfl) rfl))))) rfl))))) rfl)))
theorem s150_115 (d : Nat) (h : gd_H) (v0 : Nat) (v1 : Nat) : go gd_P0 d 150 115 [.ref v0, .ref v1] [] h =
    if gT h v1 = 4 then if gT h v0 = 4 then if (gT h (gR h v1 5) = 31 ∧ gT h (gR h v0 5) = 31) ∧ ((¬ (0 : Int32) < 0 ∧ ¬ (0 : Int32) < 0) ∧ (¬ (7 : Int32) < 0 ∧ (Int32.toNatClampNeg 0 + Int32.toNatClampNeg 7 ≤ gL h (gR h v1 5) ∧ Int32.toNatClampNeg 0 + Int32.toNatClampNeg 7 ≤ gL h (gR h v0 5)))) then go gd_P0 d 150 130 [.ref v0, .ref v1] [] (wI h (cpy (gI h) (gR h v1 5) (Int32.toNatClampNeg 0) (gR h v0 5) (Int32.toNatClampNeg 0) (Int32.toNatClampNeg 7))) else none else none else none :=
  (x150_115 ..).trans ((x150_116 ..).trans ((gs_if ..).trans (ic9 ((x150_119 ..).trans ((x150_120 ..).trans ((x150_121 ..).trans ((gs_if ..).trans (ic9 ((x150_124 ..).trans ((x150_125 ..).trans ((x150_127 ..).trans ((gs_if ..).trans (ic9 (rfl) rfl))))) rfl))))) rfl)))
theorem s150_130 (d : Nat) (h : gd_H) (v0 : Nat) (w1 : Value) : go gd_P0 d 150 130 [.ref v0, w1] [] h =
    some (.inl (some (.ref v0)), h) :=
  (x150_130 ..).trans ((x150_131 ..))
theorem r150 (d : Nat) (h : gd_H) (v0 : Nat) (v1 : Nat) : run gd_P0 (d + 1) 150 [.ref v0, .ref v1] h = go gd_P0 d 150 0 [.ref v0, .ref v1] [] h := run_succ gd_P0 d 150 [.ref v0, .ref v1] h (Nat.le_of_ble_eq_true rfl)
theorem x151_0 (d : Nat) (L st : List Value) (h : gd_H) : go gd_P0 d 151 0 L st h = gs gd_P0 d 151 0 L (i_ald 0 1 L st h) := go_eq gd_P0 d 151 0 L st h
theorem x151_1 (d : Nat) (L st : List Value) (h : gd_H) : go gd_P0 d 151 1 L st h = gs gd_P0 d 151 1 L (i_getI 4 10 4 L st h) := go_eq gd_P0 d 151 1 L st h
theorem x151_4 (d : Nat) (L st : List Value) (h : gd_H) : go gd_P0 d 151 4 L st h = gs gd_P0 d 151 4 L (i_psh (.int 400) 7 L st h) := go_eq gd_P0 d 151 4 L st h
theorem x151_7 (d : Nat) (L st : List Value) (h : gd_H) : go gd_P0 d 151 7 L st h = gs gd_P0 d 151 7 L (i_iclt 12 10 L st h) := go_eq gd_P0 d 151 7 L st h
theorem x151_10 (d : Nat) (L st : List Value) (h : gd_H) : go gd_P0 d 151 10 L st h = gs gd_P0 d 151 10 L (i_psh (.int 0) 11 L st h) := go_eq gd_P0 d 151 10 L st h
theorem x151_11 (d : Nat) (L st : List Value) (h : gd_H) : go gd_P0 d 151 11 L st h = gs gd_P0 d 151 11 L (i_zret L st h) := go_eq gd_P0 d 151 11 L st h
theorem x151_12 (d : Nat) (L st : List Value) (h : gd_H) : go gd_P0 d 151 12 L st h = gs gd_P0 d 151 12 L (i_ald 0 13 L st h) := go_eq gd_P0 d 151 12 L st h
theorem x151_13 (d : Nat) (L st : List Value) (h : gd_H) : go gd_P0 d 151 13 L st h = gs gd_P0 d 151 13 L (i_cV 152 0 4 16 L st h) := go_eq gd_P0 d 151 13 L st h
theorem x151_16 (d : Nat) (L st : List Value) (h : gd_H) : go gd_P0 d 151 16 L st h = gs gd_P0 d 151 16 L (i_msk [false] (i_psh (.int 1) 17) L st h) := go_eq gd_P0 d 151 16 L st h
theorem x151_17 (d : Nat) (L st : List Value) (h : gd_H) : go gd_P0 d 151 17 L st h = gs gd_P0 d 151 17 L (i_zret L st h) := go_eq gd_P0 d 151 17 L st h
theorem s151_0 (d : Nat) (h : gd_H) (v0 : Nat) : go gd_P0 d 151 0 [.ref v0] [] h =
    if gT h v0 = 4 then if (gI h v0 10) < 400 then if gT h v0 = 4 then gc gd_P0 d 151 13 16 [.ref v0] [] (run gd_P0 d 152 [.ref v0] h) else none else some (.inl (some (.int 0)), h) else none :=
  (x151_0 ..).trans ((x151_1 ..).trans ((gs_if ..).trans (ic9 ((x151_4 ..).trans ((x151_7 ..).trans ((gs_if ..).trans (ic9 ((x151_12 ..).trans ((x151_13 ..).trans ((gs_if ..).trans ((ia9 (by simp)).trans (ic9 rfl rfl))))) ((x151_10 ..).trans ((x151_11 ..))))))) rfl)))
theorem s151_16 (d : Nat) (h : gd_H) (w0 : Value) : go gd_P0 d 151 16 [w0] [] h =
    some (.inl (some (.int 1)), h) :=
  (x151_16 ..).trans ((x151_17 ..))
theorem r151 (d : Nat) (h : gd_H) (v0 : Nat) : run gd_P0 (d + 1) 151 [.ref v0] h = go gd_P0 d 151 0 [.ref v0] [] h := run_succ gd_P0 d 151 [.ref v0] h (Nat.le_of_ble_eq_true rfl)
theorem x152_0 (d : Nat) (L st : List Value) (h : gd_H) : go gd_P0 d 152 0 L st h = gs gd_P0 d 152 0 L (i_psh (.int 0) 1 L st h) := go_eq gd_P0 d 152 0 L st h
theorem x152_1 (d : Nat) (L st : List Value) (h : gd_H) : go gd_P0 d 152 1 L st h = gs gd_P0 d 152 1 L (i_ist 1 2 L st h) := go_eq gd_P0 d 152 1 L st h
theorem x152_2 (d : Nat) (L st : List Value) (h : gd_H) : go gd_P0 d 152 2 L st h = gs gd_P0 d 152 2 L (i_msk [true, true] (i_ild 1 3) L st h) := go_eq gd_P0 d 152 2 L st h
theorem x152_3 (d : Nat) (L st : List Value) (h : gd_H) : go gd_P0 d 152 3 L st h = gs gd_P0 d 152 3 L (i_ald 0 4 L st h) := go_eq gd_P0 d 152 3 L st h
theorem x152_4 (d : Nat) (L st : List Value) (h : gd_H) : go gd_P0 d 152 4 L st h = gs gd_P0 d 152 4 L (i_getR 4 9 7 L st h) := go_eq gd_P0 d 152 4 L st h
theorem x152_7 (d : Nat) (L st : List Value) (h : gd_H) : go gd_P0 d 152 7 L st h = gs gd_P0 d 152 7 L (i_getI 6 7 10 L st h) := go_eq gd_P0 d 152 7 L st h
theorem x152_10 (d : Nat) (L st : List Value) (h : gd_H) : go gd_P0 d 152 10 L st h = gs gd_P0 d 152 10 L (i_icge 30 13 L st h) := go_eq gd_P0 d 152 10 L st h
theorem x152_13 (d : Nat) (L st : List Value) (h : gd_H) : go gd_P0 d 152 13 L st h = gs gd_P0 d 152 13 L (i_ald 0 14 L st h) := go_eq gd_P0 d 152 13 L st h
theorem x152_14 (d : Nat) (L st : List Value) (h : gd_H) : go gd_P0 d 152 14 L st h = gs gd_P0 d 152 14 L (i_getR 4 6 17 L st h) := go_eq gd_P0 d 152 14 L st h
theorem x152_17 (d : Nat) (L st : List Value) (h : gd_H) : go gd_P0 d 152 17 L st h = gs gd_P0 d 152 17 L (i_ild 1 18 L st h) := go_eq gd_P0 d 152 17 L st h
theorem x152_18 (d : Nat) (L st : List Value) (h : gd_H) : go gd_P0 d 152 18 L st h = gs gd_P0 d 152 18 L (i_ald 0 19 L st h) := go_eq gd_P0 d 152 18 L st h
theorem x152_19 (d : Nat) (L st : List Value) (h : gd_H) : go gd_P0 d 152 19 L st h = gs gd_P0 d 152 19 L (i_ild 1 20 L st h) := go_eq gd_P0 d 152 19 L st h
theorem x152_20 (d : Nat) (L st : List Value) (h : gd_H) : go gd_P0 d 152 20 L st h = gs gd_P0 d 152 20 L (i_cV 153 1 4 23 L st h) := go_eq gd_P0 d 152 20 L st h
theorem x152_23 (d : Nat) (L st : List Value) (h : gd_H) : go gd_P0 d 152 23 L st h = gs gd_P0 d 152 23 L (i_msk [true, true] (i_astI 24) L st h) := go_eq gd_P0 d 152 23 L st h
theorem x152_24 (d : Nat) (L st : List Value) (h : gd_H) : go gd_P0 d 152 24 L st h = gs gd_P0 d 152 24 L (i_inc 1 1 27 L st h) := go_eq gd_P0 d 152 24 L st h
theorem x152_27 (d : Nat) (L st : List Value) (h : gd_H) : go gd_P0 d 152 27 L st h = gs gd_P0 d 152 27 L (i_goto 2 L st h) := go_eq gd_P0 d 152 27 L st h
theorem x152_30 (d : Nat) (L st : List Value) (h : gd_H) : go gd_P0 d 152 30 L st h = gs gd_P0 d 152 30 L (i_psh (.int 0) 31 L st h) := go_eq gd_P0 d 152 30 L st h
theorem x152_31 (d : Nat) (L st : List Value) (h : gd_H) : go gd_P0 d 152 31 L st h = gs gd_P0 d 152 31 L (i_ist 1 32 L st h) := go_eq gd_P0 d 152 31 L st h
theorem x152_32 (d : Nat) (L st : List Value) (h : gd_H) : go gd_P0 d 152 32 L st h = gs gd_P0 d 152 32 L (i_msk [true, true] (i_ild 1 33) L st h) := go_eq gd_P0 d 152 32 L st h
theorem x152_33 (d : Nat) (L st : List Value) (h : gd_H) : go gd_P0 d 152 33 L st h = gs gd_P0 d 152 33 L (i_ald 0 34 L st h) := go_eq gd_P0 d 152 33 L st h
theorem x152_34 (d : Nat) (L st : List Value) (h : gd_H) : go gd_P0 d 152 34 L st h = gs gd_P0 d 152 34 L (i_getR 4 9 37 L st h) := go_eq gd_P0 d 152 34 L st h
theorem x152_37 (d : Nat) (L st : List Value) (h : gd_H) : go gd_P0 d 152 37 L st h = gs gd_P0 d 152 37 L (i_getI 6 7 40 L st h) := go_eq gd_P0 d 152 37 L st h
theorem x152_40 (d : Nat) (L st : List Value) (h : gd_H) : go gd_P0 d 152 40 L st h = gs gd_P0 d 152 40 L (i_icge 74 43 L st h) := go_eq gd_P0 d 152 40 L st h
theorem x152_43 (d : Nat) (L st : List Value) (h : gd_H) : go gd_P0 d 152 43 L st h = gs gd_P0 d 152 43 L (i_ald 0 44 L st h) := go_eq gd_P0 d 152 43 L st h
theorem x152_44 (d : Nat) (L st : List Value) (h : gd_H) : go gd_P0 d 152 44 L st h = gs gd_P0 d 152 44 L (i_getR 4 1 47 L st h) := go_eq gd_P0 d 152 44 L st h
theorem x152_47 (d : Nat) (L st : List Value) (h : gd_H) : go gd_P0 d 152 47 L st h = gs gd_P0 d 152 47 L (i_ild 1 48 L st h) := go_eq gd_P0 d 152 47 L st h
theorem x152_48 (d : Nat) (L st : List Value) (h : gd_H) : go gd_P0 d 152 48 L st h = gs gd_P0 d 152 48 L (i_psh (.int 999) 51 L st h) := go_eq gd_P0 d 152 48 L st h
theorem x152_51 (d : Nat) (L st : List Value) (h : gd_H) : go gd_P0 d 152 51 L st h = gs gd_P0 d 152 51 L (i_ald 0 52 L st h) := go_eq gd_P0 d 152 51 L st h
theorem x152_52 (d : Nat) (L st : List Value) (h : gd_H) : go gd_P0 d 152 52 L st h = gs gd_P0 d 152 52 L (i_getR 4 1 55 L st h) := go_eq gd_P0 d 152 52 L st h
theorem x152_55 (d : Nat) (L st : List Value) (h : gd_H) : go gd_P0 d 152 55 L st h = gs gd_P0 d 152 55 L (i_ild 1 56 L st h) := go_eq gd_P0 d 152 55 L st h
theorem x152_56 (d : Nat) (L st : List Value) (h : gd_H) : go gd_P0 d 152 56 L st h = gs gd_P0 d 152 56 L (i_aldI 31 57 L st h) := go_eq gd_P0 d 152 56 L st h
theorem x152_57 (d : Nat) (L st : List Value) (h : gd_H) : go gd_P0 d 152 57 L st h = gs gd_P0 d 152 57 L (i_ald 0 58 L st h) := go_eq gd_P0 d 152 57 L st h
theorem x152_58 (d : Nat) (L st : List Value) (h : gd_H) : go gd_P0 d 152 58 L st h = gs gd_P0 d 152 58 L (i_getR 4 6 61 L st h) := go_eq gd_P0 d 152 58 L st h
theorem x152_61 (d : Nat) (L st : List Value) (h : gd_H) : go gd_P0 d 152 61 L st h = gs gd_P0 d 152 61 L (i_ild 1 62 L st h) := go_eq gd_P0 d 152 61 L st h
theorem x152_62 (d : Nat) (L st : List Value) (h : gd_H) : go gd_P0 d 152 62 L st h = gs gd_P0 d 152 62 L (i_aldI 31 63 L st h) := go_eq gd_P0 d 152 62 L st h
theorem x152_63 (d : Nat) (L st : List Value) (h : gd_H) : go gd_P0 d 152 63 L st h = gs gd_P0 d 152 63 L (i_iadd 64 L st h) := go_eq gd_P0 d 152 63 L st h
theorem x152_64 (d : Nat) (L st : List Value) (h : gd_H) : go gd_P0 d 152 64 L st h = gs gd_P0 d 152 64 L (i_mmin 67 L st h) := go_eq gd_P0 d 152 64 L st h
theorem x152_67 (d : Nat) (L st : List Value) (h : gd_H) : go gd_P0 d 152 67 L st h = gs gd_P0 d 152 67 L (i_msk [true, true] (i_astI 68) L st h) := go_eq gd_P0 d 152 67 L st h
theorem x152_68 (d : Nat) (L st : List Value) (h : gd_H) : go gd_P0 d 152 68 L st h = gs gd_P0 d 152 68 L (i_inc 1 1 71 L st h) := go_eq gd_P0 d 152 68 L st h
theorem x152_71 (d : Nat) (L st : List Value) (h : gd_H) : go gd_P0 d 152 71 L st h = gs gd_P0 d 152 71 L (i_goto 32 L st h) := go_eq gd_P0 d 152 71 L st h
theorem x152_74 (d : Nat) (L st : List Value) (h : gd_H) : go gd_P0 d 152 74 L st h = gs gd_P0 d 152 74 L (i_psh (.int 0) 75 L st h) := go_eq gd_P0 d 152 74 L st h
theorem x152_75 (d : Nat) (L st : List Value) (h : gd_H) : go gd_P0 d 152 75 L st h = gs gd_P0 d 152 75 L (i_ist 1 76 L st h) := go_eq gd_P0 d 152 75 L st h
theorem x152_76 (d : Nat) (L st : List Value) (h : gd_H) : go gd_P0 d 152 76 L st h = gs gd_P0 d 152 76 L (i_msk [true, true] (i_ild 1 77) L st h) := go_eq gd_P0 d 152 76 L st h
theorem x152_77 (d : Nat) (L st : List Value) (h : gd_H) : go gd_P0 d 152 77 L st h = gs gd_P0 d 152 77 L (i_ald 0 78 L st h) := go_eq gd_P0 d 152 77 L st h
theorem x152_78 (d : Nat) (L st : List Value) (h : gd_H) : go gd_P0 d 152 78 L st h = gs gd_P0 d 152 78 L (i_getR 4 9 81 L st h) := go_eq gd_P0 d 152 78 L st h
theorem x152_81 (d : Nat) (L st : List Value) (h : gd_H) : go gd_P0 d 152 81 L st h = gs gd_P0 d 152 81 L (i_getI 6 6 84 L st h) := go_eq gd_P0 d 152 81 L st h
theorem x152_84 (d : Nat) (L st : List Value) (h : gd_H) : go gd_P0 d 152 84 L st h = gs gd_P0 d 152 84 L (i_icge 107 87 L st h) := go_eq gd_P0 d 152 84 L st h
theorem x152_87 (d : Nat) (L st : List Value) (h : gd_H) : go gd_P0 d 152 87 L st h = gs gd_P0 d 152 87 L (i_ald 0 88 L st h) := go_eq gd_P0 d 152 87 L st h
theorem x152_88 (d : Nat) (L st : List Value) (h : gd_H) : go gd_P0 d 152 88 L st h = gs gd_P0 d 152 88 L (i_getR 4 0 91 L st h) := go_eq gd_P0 d 152 88 L st h
theorem x152_91 (d : Nat) (L st : List Value) (h : gd_H) : go gd_P0 d 152 91 L st h = gs gd_P0 d 152 91 L (i_ild 1 92 L st h) := go_eq gd_P0 d 152 91 L st h
theorem x152_92 (d : Nat) (L st : List Value) (h : gd_H) : go gd_P0 d 152 92 L st h = gs gd_P0 d 152 92 L (i_dup2 93 L st h) := go_eq gd_P0 d 152 92 L st h
theorem x152_93 (d : Nat) (L st : List Value) (h : gd_H) : go gd_P0 d 152 93 L st h = gs gd_P0 d 152 93 L (i_aldI 31 94 L st h) := go_eq gd_P0 d 152 93 L st h
theorem x152_94 (d : Nat) (L st : List Value) (h : gd_H) : go gd_P0 d 152 94 L st h = gs gd_P0 d 152 94 L (i_ald 0 95 L st h) := go_eq gd_P0 d 152 94 L st h
theorem x152_95 (d : Nat) (L st : List Value) (h : gd_H) : go gd_P0 d 152 95 L st h = gs gd_P0 d 152 95 L (i_ild 1 96 L st h) := go_eq gd_P0 d 152 95 L st h
theorem x152_96 (d : Nat) (L st : List Value) (h : gd_H) : go gd_P0 d 152 96 L st h = gs gd_P0 d 152 96 L (i_cV 159 1 4 99 L st h) := go_eq gd_P0 d 152 96 L st h
theorem x152_99 (d : Nat) (L st : List Value) (h : gd_H) : go gd_P0 d 152 99 L st h = gs gd_P0 d 152 99 L (i_msk [true, true] (i_iadd 100) L st h) := go_eq gd_P0 d 152 99 L st h
theorem x152_100 (d : Nat) (L st : List Value) (h : gd_H) : go gd_P0 d 152 100 L st h = gs gd_P0 d 152 100 L (i_astI 101 L st h) := go_eq gd_P0 d 152 100 L st h
theorem x152_101 (d : Nat) (L st : List Value) (h : gd_H) : go gd_P0 d 152 101 L st h = gs gd_P0 d 152 101 L (i_inc 1 1 104 L st h) := go_eq gd_P0 d 152 101 L st h
theorem x152_104 (d : Nat) (L st : List Value) (h : gd_H) : go gd_P0 d 152 104 L st h = gs gd_P0 d 152 104 L (i_goto 76 L st h) := go_eq gd_P0 d 152 104 L st h
theorem x152_107 (d : Nat) (L st : List Value) (h : gd_H) : go gd_P0 d 152 107 L st h = gs gd_P0 d 152 107 L (i_ald 0 108 L st h) := go_eq gd_P0 d 152 107 L st h
theorem x152_108 (d : Nat) (L st : List Value) (h : gd_H) : go gd_P0 d 152 108 L st h = gs gd_P0 d 152 108 L (i_dup 109 L st h) := go_eq gd_P0 d 152 108 L st h
theorem x152_109 (d : Nat) (L st : List Value) (h : gd_H) : go gd_P0 d 152 109 L st h = gs gd_P0 d 152 109 L (i_getI 4 10 112 L st h) := go_eq gd_P0 d 152 109 L st h
theorem x152_112 (d : Nat) (L st : List Value) (h : gd_H) : go gd_P0 d 152 112 L st h = gs gd_P0 d 152 112 L (i_psh (.int 1) 113 L st h) := go_eq gd_P0 d 152 112 L st h
theorem x152_113 (d : Nat) (L st : List Value) (h : gd_H) : go gd_P0 d 152 113 L st h = gs gd_P0 d 152 113 L (i_iadd 114 L st h) := go_eq gd_P0 d 152 113 L st h
theorem x152_114 (d : Nat) (L st : List Value) (h : gd_H) : go gd_P0 d 152 114 L st h = gs gd_P0 d 152 114 L (i_putI 4 10 117 L st h) := go_eq gd_P0 d 152 114 L st h
theorem x152_117 (d : Nat) (L st : List Value) (h : gd_H) : go gd_P0 d 152 117 L st h = gs gd_P0 d 152 117 L (i_ret L st h) := go_eq gd_P0 d 152 117 L st h
theorem s152_0 (d : Nat) (h : gd_H) (v0 : Nat) : go gd_P0 d 152 0 [.ref v0, .null] [] h =
    go gd_P0 d 152 2 [.ref v0, .int 0] [] h :=
  (x152_0 ..).trans ((x152_1 ..))
theorem s152_2 (d : Nat) (h : gd_H) (v0 : Nat) (v1 : Int32) : go gd_P0 d 152 2 [.ref v0, .int v1] [] h =
    if gT h v0 = 4 then if gT h (gR h v0 9) = 6 then if (gI h (gR h v0 9) 7) ≤ v1 then go gd_P0 d 152 32 [.ref v0, .int 0] [] h else if gT h v0 = 4 then if gT h v0 = 4 then gc gd_P0 d 152 20 23 [.ref v0, .int v1] [.int v1, .ref (gR h v0 6)] (run gd_P0 d 153 [.ref v0, .int v1] h) else none else none else none else none :=
  (x152_2 ..).trans ((x152_3 ..).trans ((x152_4 ..).trans ((gs_if ..).trans (ic9 ((x152_7 ..).trans ((gs_if ..).trans (ic9 ((x152_10 ..).trans ((gs_if ..).trans (ic9 ((x152_30 ..).trans ((x152_31 ..))) ((x152_13 ..).trans ((x152_14 ..).trans ((gs_if ..).trans (ic9 ((x152_17 ..).trans ((x152_18 ..).trans ((x152_19 ..).trans ((x152_20 ..).trans ((gs_if ..).trans ((ia9 (by simp)).trans (ic9 rfl rfl))))))) rfl))))))) rfl))) rfl))))
theorem s152_23 (d : Nat) (h : gd_H) (v0 : Nat) (v1 : Int32) (z0 : Int32) (z1 : Int32) (z2 : Nat) : go gd_P0 d 152 23 [.ref v0, .int v1] [.int z0, .int z1, .ref z2] h =
    if gT h z2 = 31 ∧ ¬ (z1 < 0 ∨ gL h z2 ≤ Int32.toNatClampNeg z1) then go gd_P0 d 152 2 [.ref v0, .int (v1 + 1)] [] (wI h (up1 (gI h) z2 (Int32.toNatClampNeg z1) z0)) else none :=
  (x152_23 ..).trans ((gs_nif ..).trans (ic9 ((x152_24 ..).trans ((x152_27 ..))) rfl))
theorem s152_32 (d : Nat) (h : gd_H) (v0 : Nat) (v1 : Int32) : go gd_P0 d 152 32 [.ref v0, .int v1] [] h =
    if gT h v0 = 4 then if gT h (gR h v0 9) = 6 then if (gI h (gR h v0 9) 7) ≤ v1 then go gd_P0 d 152 76 [.ref v0, .int 0] [] h else if gT h v0 = 4 then if gT h v0 = 4 then if gT h (gR h v0 1) = 31 ∧ ¬ (v1 < 0 ∨ gL h (gR h v0 1) ≤ Int32.toNatClampNeg v1) then if gT h v0 = 4 then if gT h (gR h v0 6) = 31 ∧ ¬ (v1 < 0 ∨ gL h (gR h v0 6) ≤ Int32.toNatClampNeg v1) then go gd_P0 d 152 67 [.ref v0, .int v1] [.int (if ((gI h (gR h v0 1) (Int32.toNatClampNeg v1)) + (gI h (gR h v0 6) (Int32.toNatClampNeg v1))) < 999 then ((gI h (gR h v0 1) (Int32.toNatClampNeg v1)) + (gI h (gR h v0 6) (Int32.toNatClampNeg v1))) else 999), .int v1, .ref (gR h v0 1)] h else none else none else none else none else none else none else none :=
  (x152_32 ..).trans ((x152_33 ..).trans ((x152_34 ..).trans ((gs_if ..).trans (ic9 ((x152_37 ..).trans ((gs_if ..).trans (ic9 ((x152_40 ..).trans ((gs_if ..).trans (ic9 ((x152_74 ..).trans ((x152_75 ..))) ((x152_43 ..).trans ((x152_44 ..).trans ((gs_if ..).trans (ic9 ((x152_47 ..).trans ((x152_48 ..).trans ((x152_51 ..).trans ((x152_52 ..).trans ((gs_if ..).trans (ic9 ((x152_55 ..).trans ((x152_56 ..).trans ((gs_if ..).trans (ic9 ((x152_57 ..).trans ((x152_58 ..).trans ((gs_if ..).trans (ic9 ((x152_61 ..).trans ((x152_62 ..).trans ((gs_if ..).trans (ic9 ((x152_63 ..).trans ((x152_64 ..))) rfl)))) rfl)))) rfl)))) rfl)))))) rfl))))))) rfl))) rfl))))
theorem s152_67 (d : Nat) (h : gd_H) (v0 : Nat) (v1 : Int32) (z0 : Int32) (z1 : Int32) (z2 : Nat) : go gd_P0 d 152 67 [.ref v0, .int v1] [.int z0, .int z1, .ref z2] h =
    if gT h z2 = 31 ∧ ¬ (z1 < 0 ∨ gL h z2 ≤ Int32.toNatClampNeg z1) then go gd_P0 d 152 32 [.ref v0, .int (v1 + 1)] [] (wI h (up1 (gI h) z2 (Int32.toNatClampNeg z1) z0)) else none :=
  (x152_67 ..).trans ((gs_nif ..).trans (ic9 ((x152_68 ..).trans ((x152_71 ..))) rfl))
theorem s152_76 (d : Nat) (h : gd_H) (v0 : Nat) (v1 : Int32) : go gd_P0 d 152 76 [.ref v0, .int v1] [] h =
    if gT h v0 = 4 then if gT h (gR h v0 9) = 6 then if (gI h (gR h v0 9) 6) ≤ v1 then if gT h v0 = 4 then if gT h v0 = 4 then some (.inl none, (wI h (up1 (gI h) v0 10 ((gI h v0 10) + 1)))) else none else none else if gT h v0 = 4 then if gT h (gR h v0 0) = 31 ∧ ¬ (v1 < 0 ∨ gL h (gR h v0 0) ≤ Int32.toNatClampNeg v1) then if gT h v0 = 4 then gc gd_P0 d 152 96 99 [.ref v0, .int v1] [.int (gI h (gR h v0 0) (Int32.toNatClampNeg v1)), .int v1, .ref (gR h v0 0)] (run gd_P0 d 159 [.ref v0, .int v1] h) else none else none else none else none else none :=
  (x152_76 ..).trans ((x152_77 ..).trans ((x152_78 ..).trans ((gs_if ..).trans (ic9 ((x152_81 ..).trans ((gs_if ..).trans (ic9 ((x152_84 ..).trans ((gs_if ..).trans (ic9 ((x152_107 ..).trans ((x152_108 ..).trans ((x152_109 ..).trans ((gs_if ..).trans (ic9 ((x152_112 ..).trans ((x152_113 ..).trans ((x152_114 ..).trans ((gs_if ..).trans (ic9 ((x152_117 ..)) rfl))))) rfl))))) ((x152_87 ..).trans ((x152_88 ..).trans ((gs_if ..).trans (ic9 ((x152_91 ..).trans ((x152_92 ..).trans ((x152_93 ..).trans ((gs_if ..).trans (ic9 ((x152_94 ..).trans ((x152_95 ..).trans ((x152_96 ..).trans ((gs_if ..).trans ((ia9 (by simp)).trans (ic9 rfl rfl)))))) rfl))))) rfl))))))) rfl))) rfl))))
theorem s152_99 (d : Nat) (h : gd_H) (v0 : Nat) (v1 : Int32) (z0 : Int32) (z1 : Int32) (z2 : Int32) (z3 : Nat) : go gd_P0 d 152 99 [.ref v0, .int v1] [.int z0, .int z1, .int z2, .ref z3] h =
    if gT h z3 = 31 ∧ ¬ (z2 < 0 ∨ gL h z3 ≤ Int32.toNatClampNeg z2) then go gd_P0 d 152 76 [.ref v0, .int (v1 + 1)] [] (wI h (up1 (gI h) z3 (Int32.toNatClampNeg z2) (z1 + z0))) else none :=
  (x152_99 ..).trans ((x152_100 ..).trans ((gs_if ..).trans (ic9 ((x152_101 ..).trans ((x152_104 ..))) rfl)))
theorem r152 (d : Nat) (h : gd_H) (v0 : Nat) : run gd_P0 (d + 1) 152 [.ref v0] h = go gd_P0 d 152 0 [.ref v0, .null] [] h := run_succ gd_P0 d 152 [.ref v0] h (Nat.le_of_ble_eq_true rfl)
theorem x153_0 (d : Nat) (L st : List Value) (h : gd_H) : go gd_P0 d 153 0 L st h = gs gd_P0 d 153 0 L (i_psh (.int 0) 1 L st h) := go_eq gd_P0 d 153 0 L st h
theorem x153_1 (d : Nat) (L st : List Value) (h : gd_H) : go gd_P0 d 153 1 L st h = gs gd_P0 d 153 1 L (i_ist 2 2 L st h) := go_eq gd_P0 d 153 1 L st h
theorem x153_2 (d : Nat) (L st : List Value) (h : gd_H) : go gd_P0 d 153 2 L st h = gs gd_P0 d 153 2 L (i_psh (.int 0) 3 L st h) := go_eq gd_P0 d 153 2 L st h
theorem x153_3 (d : Nat) (L st : List Value) (h : gd_H) : go gd_P0 d 153 3 L st h = gs gd_P0 d 153 3 L (i_ist 3 4 L st h) := go_eq gd_P0 d 153 3 L st h
theorem x153_4 (d : Nat) (L st : List Value) (h : gd_H) : go gd_P0 d 153 4 L st h = gs gd_P0 d 153 4 L (i_msk [true, true, true, true] (i_ild 3 5) L st h) := go_eq gd_P0 d 153 4 L st h
theorem x153_5 (d : Nat) (L st : List Value) (h : gd_H) : go gd_P0 d 153 5 L st h = gs gd_P0 d 153 5 L (i_ald 0 6 L st h) := go_eq gd_P0 d 153 5 L st h
theorem x153_6 (d : Nat) (L st : List Value) (h : gd_H) : go gd_P0 d 153 6 L st h = gs gd_P0 d 153 6 L (i_getR 4 9 9 L st h) := go_eq gd_P0 d 153 6 L st h
theorem x153_9 (d : Nat) (L st : List Value) (h : gd_H) : go gd_P0 d 153 9 L st h = gs gd_P0 d 153 9 L (i_getI 6 7 12 L st h) := go_eq gd_P0 d 153 9 L st h
theorem x153_12 (d : Nat) (L st : List Value) (h : gd_H) : go gd_P0 d 153 12 L st h = gs gd_P0 d 153 12 L (i_icge 56 15 L st h) := go_eq gd_P0 d 153 12 L st h
theorem x153_15 (d : Nat) (L st : List Value) (h : gd_H) : go gd_P0 d 153 15 L st h = gs gd_P0 d 153 15 L (i_ald 0 16 L st h) := go_eq gd_P0 d 153 15 L st h
theorem x153_16 (d : Nat) (L st : List Value) (h : gd_H) : go gd_P0 d 153 16 L st h = gs gd_P0 d 153 16 L (i_getR 4 9 19 L st h) := go_eq gd_P0 d 153 16 L st h
theorem x153_19 (d : Nat) (L st : List Value) (h : gd_H) : go gd_P0 d 153 19 L st h = gs gd_P0 d 153 19 L (i_getR 6 4 22 L st h) := go_eq gd_P0 d 153 19 L st h
theorem x153_22 (d : Nat) (L st : List Value) (h : gd_H) : go gd_P0 d 153 22 L st h = gs gd_P0 d 153 22 L (i_ild 1 23 L st h) := go_eq gd_P0 d 153 22 L st h
theorem x153_23 (d : Nat) (L st : List Value) (h : gd_H) : go gd_P0 d 153 23 L st h = gs gd_P0 d 153 23 L (i_aldI 31 24 L st h) := go_eq gd_P0 d 153 23 L st h
theorem x153_24 (d : Nat) (L st : List Value) (h : gd_H) : go gd_P0 d 153 24 L st h = gs gd_P0 d 153 24 L (i_ild 3 25 L st h) := go_eq gd_P0 d 153 24 L st h
theorem x153_25 (d : Nat) (L st : List Value) (h : gd_H) : go gd_P0 d 153 25 L st h = gs gd_P0 d 153 25 L (i_ishr 26 L st h) := go_eq gd_P0 d 153 25 L st h
theorem x153_26 (d : Nat) (L st : List Value) (h : gd_H) : go gd_P0 d 153 26 L st h = gs gd_P0 d 153 26 L (i_psh (.int 1) 27 L st h) := go_eq gd_P0 d 153 26 L st h
theorem x153_27 (d : Nat) (L st : List Value) (h : gd_H) : go gd_P0 d 153 27 L st h = gs gd_P0 d 153 27 L (i_iand 28 L st h) := go_eq gd_P0 d 153 27 L st h
theorem x153_28 (d : Nat) (L st : List Value) (h : gd_H) : go gd_P0 d 153 28 L st h = gs gd_P0 d 153 28 L (i_psh (.int 1) 29 L st h) := go_eq gd_P0 d 153 28 L st h
theorem x153_29 (d : Nat) (L st : List Value) (h : gd_H) : go gd_P0 d 153 29 L st h = gs gd_P0 d 153 29 L (i_icne 50 32 L st h) := go_eq gd_P0 d 153 29 L st h
theorem x153_32 (d : Nat) (L st : List Value) (h : gd_H) : go gd_P0 d 153 32 L st h = gs gd_P0 d 153 32 L (i_ald 0 33 L st h) := go_eq gd_P0 d 153 32 L st h
theorem x153_33 (d : Nat) (L st : List Value) (h : gd_H) : go gd_P0 d 153 33 L st h = gs gd_P0 d 153 33 L (i_getR 4 1 36 L st h) := go_eq gd_P0 d 153 33 L st h
theorem x153_36 (d : Nat) (L st : List Value) (h : gd_H) : go gd_P0 d 153 36 L st h = gs gd_P0 d 153 36 L (i_ild 3 37 L st h) := go_eq gd_P0 d 153 36 L st h
theorem x153_37 (d : Nat) (L st : List Value) (h : gd_H) : go gd_P0 d 153 37 L st h = gs gd_P0 d 153 37 L (i_aldI 31 38 L st h) := go_eq gd_P0 d 153 37 L st h
theorem x153_38 (d : Nat) (L st : List Value) (h : gd_H) : go gd_P0 d 153 38 L st h = gs gd_P0 d 153 38 L (i_ald 0 39 L st h) := go_eq gd_P0 d 153 38 L st h
theorem x153_39 (d : Nat) (L st : List Value) (h : gd_H) : go gd_P0 d 153 39 L st h = gs gd_P0 d 153 39 L (i_getR 4 1 42 L st h) := go_eq gd_P0 d 153 39 L st h
theorem x153_42 (d : Nat) (L st : List Value) (h : gd_H) : go gd_P0 d 153 42 L st h = gs gd_P0 d 153 42 L (i_ild 1 43 L st h) := go_eq gd_P0 d 153 42 L st h
theorem x153_43 (d : Nat) (L st : List Value) (h : gd_H) : go gd_P0 d 153 43 L st h = gs gd_P0 d 153 43 L (i_aldI 31 44 L st h) := go_eq gd_P0 d 153 43 L st h
theorem x153_44 (d : Nat) (L st : List Value) (h : gd_H) : go gd_P0 d 153 44 L st h = gs gd_P0 d 153 44 L (i_icle 50 47 L st h) := go_eq gd_P0 d 153 44 L st h
theorem x153_47 (d : Nat) (L st : List Value) (h : gd_H) : go gd_P0 d 153 47 L st h = gs gd_P0 d 153 47 L (i_inc 2 1 50 L st h) := go_eq gd_P0 d 153 47 L st h
theorem x153_50 (d : Nat) (L st : List Value) (h : gd_H) : go gd_P0 d 153 50 L st h = gs gd_P0 d 153 50 L (i_msk [true, true, true, true] (i_inc 3 1 53) L st h) := go_eq gd_P0 d 153 50 L st h
theorem x153_53 (d : Nat) (L st : List Value) (h : gd_H) : go gd_P0 d 153 53 L st h = gs gd_P0 d 153 53 L (i_goto 4 L st h) := go_eq gd_P0 d 153 53 L st h
theorem x153_56 (d : Nat) (L st : List Value) (h : gd_H) : go gd_P0 d 153 56 L st h = gs gd_P0 d 153 56 L (i_ald 0 57 L st h) := go_eq gd_P0 d 153 56 L st h
theorem x153_57 (d : Nat) (L st : List Value) (h : gd_H) : go gd_P0 d 153 57 L st h = gs gd_P0 d 153 57 L (i_getR 4 7 60 L st h) := go_eq gd_P0 d 153 57 L st h
theorem x153_60 (d : Nat) (L st : List Value) (h : gd_H) : go gd_P0 d 153 60 L st h = gs gd_P0 d 153 60 L (i_ald 0 61 L st h) := go_eq gd_P0 d 153 60 L st h
theorem x153_61 (d : Nat) (L st : List Value) (h : gd_H) : go gd_P0 d 153 61 L st h = gs gd_P0 d 153 61 L (i_getR 4 2 64 L st h) := go_eq gd_P0 d 153 61 L st h
theorem x153_64 (d : Nat) (L st : List Value) (h : gd_H) : go gd_P0 d 153 64 L st h = gs gd_P0 d 153 64 L (i_ild 1 65 L st h) := go_eq gd_P0 d 153 64 L st h
theorem x153_65 (d : Nat) (L st : List Value) (h : gd_H) : go gd_P0 d 153 65 L st h = gs gd_P0 d 153 65 L (i_aldI 31 66 L st h) := go_eq gd_P0 d 153 65 L st h
theorem x153_66 (d : Nat) (L st : List Value) (h : gd_H) : go gd_P0 d 153 66 L st h = gs gd_P0 d 153 66 L (i_putI 5 0 69 L st h) := go_eq gd_P0 d 153 66 L st h
theorem x153_69 (d : Nat) (L st : List Value) (h : gd_H) : go gd_P0 d 153 69 L st h = gs gd_P0 d 153 69 L (i_ald 0 70 L st h) := go_eq gd_P0 d 153 69 L st h
theorem x153_70 (d : Nat) (L st : List Value) (h : gd_H) : go gd_P0 d 153 70 L st h = gs gd_P0 d 153 70 L (i_getR 4 7 73 L st h) := go_eq gd_P0 d 153 70 L st h
theorem x153_73 (d : Nat) (L st : List Value) (h : gd_H) : go gd_P0 d 153 73 L st h = gs gd_P0 d 153 73 L (i_ald 0 74 L st h) := go_eq gd_P0 d 153 73 L st h
theorem x153_74 (d : Nat) (L st : List Value) (h : gd_H) : go gd_P0 d 153 74 L st h = gs gd_P0 d 153 74 L (i_getR 4 1 77 L st h) := go_eq gd_P0 d 153 74 L st h
theorem x153_77 (d : Nat) (L st : List Value) (h : gd_H) : go gd_P0 d 153 77 L st h = gs gd_P0 d 153 77 L (i_ild 1 78 L st h) := go_eq gd_P0 d 153 77 L st h
theorem x153_78 (d : Nat) (L st : List Value) (h : gd_H) : go gd_P0 d 153 78 L st h = gs gd_P0 d 153 78 L (i_aldI 31 79 L st h) := go_eq gd_P0 d 153 78 L st h
theorem x153_79 (d : Nat) (L st : List Value) (h : gd_H) : go gd_P0 d 153 79 L st h = gs gd_P0 d 153 79 L (i_putI 5 1 82 L st h) := go_eq gd_P0 d 153 79 L st h
theorem x153_82 (d : Nat) (L st : List Value) (h : gd_H) : go gd_P0 d 153 82 L st h = gs gd_P0 d 153 82 L (i_ald 0 83 L st h) := go_eq gd_P0 d 153 82 L st h
theorem x153_83 (d : Nat) (L st : List Value) (h : gd_H) : go gd_P0 d 153 83 L st h = gs gd_P0 d 153 83 L (i_getR 4 7 86 L st h) := go_eq gd_P0 d 153 83 L st h
theorem x153_86 (d : Nat) (L st : List Value) (h : gd_H) : go gd_P0 d 153 86 L st h = gs gd_P0 d 153 86 L (i_ild 2 87 L st h) := go_eq gd_P0 d 153 86 L st h
theorem x153_87 (d : Nat) (L st : List Value) (h : gd_H) : go gd_P0 d 153 87 L st h = gs gd_P0 d 153 87 L (i_putI 5 2 90 L st h) := go_eq gd_P0 d 153 87 L st h
theorem x153_90 (d : Nat) (L st : List Value) (h : gd_H) : go gd_P0 d 153 90 L st h = gs gd_P0 d 153 90 L (i_ald 0 91 L st h) := go_eq gd_P0 d 153 90 L st h
theorem x153_91 (d : Nat) (L st : List Value) (h : gd_H) : go gd_P0 d 153 91 L st h = gs gd_P0 d 153 91 L (i_getR 4 7 94 L st h) := go_eq gd_P0 d 153 91 L st h
theorem x153_94 (d : Nat) (L st : List Value) (h : gd_H) : go gd_P0 d 153 94 L st h = gs gd_P0 d 153 94 L (i_ald 0 95 L st h) := go_eq gd_P0 d 153 94 L st h
theorem x153_95 (d : Nat) (L st : List Value) (h : gd_H) : go gd_P0 d 153 95 L st h = gs gd_P0 d 153 95 L (i_cV 154 0 4 98 L st h) := go_eq gd_P0 d 153 95 L st h
theorem x153_98 (d : Nat) (L st : List Value) (h : gd_H) : go gd_P0 d 153 98 L st h = gs gd_P0 d 153 98 L (i_msk [true, true, false, false] (i_putI 5 3 101) L st h) := go_eq gd_P0 d 153 98 L st h
theorem x153_101 (d : Nat) (L st : List Value) (h : gd_H) : go gd_P0 d 153 101 L st h = gs gd_P0 d 153 101 L (i_ald 0 102 L st h) := go_eq gd_P0 d 153 101 L st h
theorem x153_102 (d : Nat) (L st : List Value) (h : gd_H) : go gd_P0 d 153 102 L st h = gs gd_P0 d 153 102 L (i_getR 4 7 105 L st h) := go_eq gd_P0 d 153 102 L st h
theorem x153_105 (d : Nat) (L st : List Value) (h : gd_H) : go gd_P0 d 153 105 L st h = gs gd_P0 d 153 105 L (i_ald 0 106 L st h) := go_eq gd_P0 d 153 105 L st h
theorem x153_106 (d : Nat) (L st : List Value) (h : gd_H) : go gd_P0 d 153 106 L st h = gs gd_P0 d 153 106 L (i_ild 1 107 L st h) := go_eq gd_P0 d 153 106 L st h
theorem x153_107 (d : Nat) (L st : List Value) (h : gd_H) : go gd_P0 d 153 107 L st h = gs gd_P0 d 153 107 L (i_cV 155 1 4 110 L st h) := go_eq gd_P0 d 153 107 L st h
theorem x153_110 (d : Nat) (L st : List Value) (h : gd_H) : go gd_P0 d 153 110 L st h = gs gd_P0 d 153 110 L (i_msk [true, true, false, false] (i_putI 5 4 113) L st h) := go_eq gd_P0 d 153 110 L st h
theorem x153_113 (d : Nat) (L st : List Value) (h : gd_H) : go gd_P0 d 153 113 L st h = gs gd_P0 d 153 113 L (i_ald 0 114 L st h) := go_eq gd_P0 d 153 113 L st h
theorem x153_114 (d : Nat) (L st : List Value) (h : gd_H) : go gd_P0 d 153 114 L st h = gs gd_P0 d 153 114 L (i_getR 4 7 117 L st h) := go_eq gd_P0 d 153 114 L st h
theorem x153_117 (d : Nat) (L st : List Value) (h : gd_H) : go gd_P0 d 153 117 L st h = gs gd_P0 d 153 117 L (i_ald 0 118 L st h) := go_eq gd_P0 d 153 117 L st h
theorem x153_118 (d : Nat) (L st : List Value) (h : gd_H) : go gd_P0 d 153 118 L st h = gs gd_P0 d 153 118 L (i_getI 4 10 121 L st h) := go_eq gd_P0 d 153 118 L st h
theorem x153_121 (d : Nat) (L st : List Value) (h : gd_H) : go gd_P0 d 153 121 L st h = gs gd_P0 d 153 121 L (i_psh (.int 12) 123 L st h) := go_eq gd_P0 d 153 121 L st h
theorem x153_123 (d : Nat) (L st : List Value) (h : gd_H) : go gd_P0 d 153 123 L st h = gs gd_P0 d 153 123 L (i_irem 124 L st h) := go_eq gd_P0 d 153 123 L st h
theorem x153_124 (d : Nat) (L st : List Value) (h : gd_H) : go gd_P0 d 153 124 L st h = gs gd_P0 d 153 124 L (i_putI 5 5 127 L st h) := go_eq gd_P0 d 153 124 L st h
theorem x153_127 (d : Nat) (L st : List Value) (h : gd_H) : go gd_P0 d 153 127 L st h = gs gd_P0 d 153 127 L (i_ald 0 128 L st h) := go_eq gd_P0 d 153 127 L st h
theorem x153_128 (d : Nat) (L st : List Value) (h : gd_H) : go gd_P0 d 153 128 L st h = gs gd_P0 d 153 128 L (i_getR 4 7 131 L st h) := go_eq gd_P0 d 153 128 L st h
theorem x153_131 (d : Nat) (L st : List Value) (h : gd_H) : go gd_P0 d 153 131 L st h = gs gd_P0 d 153 131 L (i_ald 0 132 L st h) := go_eq gd_P0 d 153 131 L st h
theorem x153_132 (d : Nat) (L st : List Value) (h : gd_H) : go gd_P0 d 153 132 L st h = gs gd_P0 d 153 132 L (i_cV 158 0 4 135 L st h) := go_eq gd_P0 d 153 132 L st h
theorem x153_135 (d : Nat) (L st : List Value) (h : gd_H) : go gd_P0 d 153 135 L st h = gs gd_P0 d 153 135 L (i_msk [true, true, false, false] (i_putI 5 6 138) L st h) := go_eq gd_P0 d 153 135 L st h
theorem x153_138 (d : Nat) (L st : List Value) (h : gd_H) : go gd_P0 d 153 138 L st h = gs gd_P0 d 153 138 L (i_ald 0 139 L st h) := go_eq gd_P0 d 153 138 L st h
theorem x153_139 (d : Nat) (L st : List Value) (h : gd_H) : go gd_P0 d 153 139 L st h = gs gd_P0 d 153 139 L (i_getR 4 7 142 L st h) := go_eq gd_P0 d 153 139 L st h
theorem x153_142 (d : Nat) (L st : List Value) (h : gd_H) : go gd_P0 d 153 142 L st h = gs gd_P0 d 153 142 L (i_ild 1 143 L st h) := go_eq gd_P0 d 153 142 L st h
theorem x153_143 (d : Nat) (L st : List Value) (h : gd_H) : go gd_P0 d 153 143 L st h = gs gd_P0 d 153 143 L (i_putI 5 7 146 L st h) := go_eq gd_P0 d 153 143 L st h
theorem x153_146 (d : Nat) (L st : List Value) (h : gd_H) : go gd_P0 d 153 146 L st h = gs gd_P0 d 153 146 L (i_ald 0 147 L st h) := go_eq gd_P0 d 153 146 L st h
theorem x153_147 (d : Nat) (L st : List Value) (h : gd_H) : go gd_P0 d 153 147 L st h = gs gd_P0 d 153 147 L (i_getR 4 8 150 L st h) := go_eq gd_P0 d 153 147 L st h
theorem x153_150 (d : Nat) (L st : List Value) (h : gd_H) : go gd_P0 d 153 150 L st h = gs gd_P0 d 153 150 L (i_ald 0 151 L st h) := go_eq gd_P0 d 153 150 L st h
theorem x153_151 (d : Nat) (L st : List Value) (h : gd_H) : go gd_P0 d 153 151 L st h = gs gd_P0 d 153 151 L (i_getR 4 7 154 L st h) := go_eq gd_P0 d 153 151 L st h
theorem x153_154 (d : Nat) (L st : List Value) (h : gd_H) : go gd_P0 d 153 154 L st h = gs gd_P0 d 153 154 L (i_cV 135 1 2 157 L st h) := go_eq gd_P0 d 153 154 L st h
theorem x153_157 (d : Nat) (L st : List Value) (h : gd_H) : go gd_P0 d 153 157 L st h = gs gd_P0 d 153 157 L (i_msk [false, false, false, false] (i_iret) L st h) := go_eq gd_P0 d 153 157 L st h
theorem s153_0 (d : Nat) (h : gd_H) (v0 : Nat) (v1 : Int32) : go gd_P0 d 153 0 [.ref v0, .int v1, .null, .null] [] h =
    go gd_P0 d 153 4 [.ref v0, .int v1, .int 0, .int 0] [] h :=
  (x153_0 ..).trans ((x153_1 ..).trans ((x153_2 ..).trans ((x153_3 ..))))
theorem s153_4 (d : Nat) (h : gd_H) (v0 : Nat) (v1 : Int32) (v2 : Int32) (v3 : Int32) : go gd_P0 d 153 4 [.ref v0, .int v1, .int v2, .int v3] [] h =
    if gT h v0 = 4 then if gT h (gR h v0 9) = 6 then if (gI h (gR h v0 9) 7) ≤ v3 then if gT h v0 = 4 then if gT h v0 = 4 then if gT h (gR h v0 2) = 31 ∧ ¬ (v1 < 0 ∨ gL h (gR h v0 2) ≤ Int32.toNatClampNeg v1) then if gT h (gR h v0 7) = 5 then if gT h v0 = 4 then if gT h v0 = 4 then if gT h (gR h v0 1) = 31 ∧ ¬ (v1 < 0 ∨ gL h (gR h v0 1) ≤ Int32.toNatClampNeg v1) then if gT h (gR h v0 7) = 5 then if gT h v0 = 4 then if gT h (gR h v0 7) = 5 then if gT h v0 = 4 then if gT h v0 = 4 then gc gd_P0 d 153 95 98 [.ref v0, .int v1, .int v2, .int v3] [.ref (gR h v0 7)] (run gd_P0 d 154 [.ref v0] (wI h (up1 (up1 (up1 (gI h) (gR h v0 7) 0 (gI h (gR h v0 2) (Int32.toNatClampNeg v1))) (gR h v0 7) 1 ((up1 (gI h) (gR h v0 7) 0 (gI h (gR h v0 2) (Int32.toNatClampNeg v1))) (gR h v0 1) (Int32.toNatClampNeg v1))) (gR h v0 7) 2 v2))) else none else none else none else none else none else none else none else none else none else none else none else none else if gT h v0 = 4 then if gT h (gR h v0 9) = 6 then if gT h (gR h (gR h v0 9) 4) = 31 ∧ ¬ (v1 < 0 ∨ gL h (gR h (gR h v0 9) 4) ≤ Int32.toNatClampNeg v1) then if (((gI h (gR h (gR h v0 9) 4) (Int32.toNatClampNeg v1)) >>> (v3 &&& 31)) &&& (1 : Int32)) = 1 then if gT h v0 = 4 then if gT h (gR h v0 1) = 31 ∧ ¬ (v3 < 0 ∨ gL h (gR h v0 1) ≤ Int32.toNatClampNeg v3) then if gT h v0 = 4 then if gT h (gR h v0 1) = 31 ∧ ¬ (v1 < 0 ∨ gL h (gR h v0 1) ≤ Int32.toNatClampNeg v1) then if (gI h (gR h v0 1) (Int32.toNatClampNeg v3)) ≤ (gI h (gR h v0 1) (Int32.toNatClampNeg v1)) then go gd_P0 d 153 50 [.ref v0, .int v1, .int v2, .int v3] [] h else go gd_P0 d 153 50 [.ref v0, .int v1, .int (v2 + 1), .int v3] [] h else none else none else none else none else go gd_P0 d 153 50 [.ref v0, .int v1, .int v2, .int v3] [] h else none else none else none else none else none :=
  (x153_4 ..).trans ((x153_5 ..).trans ((x153_6 ..).trans ((gs_if ..).trans (ic9 ((x153_9 ..).trans ((gs_if ..).trans (ic9 ((x153_12 ..).trans ((gs_if ..).trans (ic9 ((x153_56 ..).trans ((x153_57 ..).trans ((gs_if ..).trans (ic9 ((x153_60 ..).trans ((x153_61 ..).trans ((gs_if ..).trans (ic9 ((x153_64 ..).trans ((x153_65 ..).trans ((gs_if ..).trans (ic9 ((x153_66 ..).trans ((gs_if ..).trans (ic9 ((x153_69 ..).trans ((x153_70 ..).trans ((gs_if ..).trans (ic9 ((x153_73 ..).trans ((x153_74 ..).trans ((gs_if ..).trans (ic9 ((x153_77 ..).trans ((x153_78 ..).trans ((gs_if ..).trans (ic9 ((x153_79 ..).trans ((gs_if ..).trans (ic9 ((x153_82 ..).trans ((x153_83 ..).trans ((gs_if ..).trans (ic9 ((x153_86 ..).trans ((x153_87 ..).trans ((gs_if ..).trans (ic9 ((x153_90 ..).trans ((x153_91 ..).trans ((gs_if ..).trans (ic9 ((x153_94 ..).trans ((x153_95 ..).trans ((gs_if ..).trans ((ia9 (by simp)).trans (ic9 rfl rfl))))) rfl)))) rfl)))) rfl)))) rfl))) rfl)))) rfl)))) rfl)))) rfl))) rfl)))) rfl)))) rfl)))) ((x153_15 ..).trans ((x153_16 ..).trans ((gs_if ..).trans (ic9 ((x153_19 ..).trans ((gs_if ..).trans (ic9 ((x153_22 ..).trans ((x153_23 ..).trans ((gs_if ..).trans (ic9 ((x153_24 ..).trans ((x153_25 ..).trans ((x153_26 ..).trans ((x153_27 ..).trans ((x153_28 ..).trans ((x153_29 ..).trans ((gs_if ..).trans (ic9 ((x153_32 ..).trans ((x153_33 ..).trans ((gs_if ..).trans (ic9 ((x153_36 ..).trans ((x153_37 ..).trans ((gs_if ..).trans (ic9 ((x153_38 ..).trans ((x153_39 ..).trans ((gs_if ..).trans (ic9 ((x153_42 ..).trans ((x153_43 ..).trans ((gs_if ..).trans (ic9 ((x153_44 ..).trans ((gs_if ..).trans (ic9 (rfl) ((x153_47 ..))))) rfl)))) rfl)))) rfl)))) rfl)))) (rfl))))))))) rfl)))) rfl))) rfl))))))) rfl))) rfl))))
theorem s153_50 (d : Nat) (h : gd_H) (v0 : Nat) (v1 : Int32) (v2 : Int32) (v3 : Int32) : go gd_P0 d 153 50 [.ref v0, .int v1, .int v2, .int v3] [] h =
    go gd_P0 d 153 4 [.ref v0, .int v1, .int v2, .int (v3 + 1)] [] h :=
  (x153_50 ..).trans ((x153_53 ..))
theorem s153_98 (d : Nat) (h : gd_H) (v0 : Nat) (v1 : Int32) (w2 : Value) (w3 : Value) (z0 : Int32) (z1 : Nat) : go gd_P0 d 153 98 [.ref v0, .int v1, w2, w3] [.int z0, .ref z1] h =
    if gT h z1 = 5 then if gT h v0 = 4 then if gT h v0 = 4 then gc gd_P0 d 153 107 110 [.ref v0, .int v1, .null, .null] [.ref (gR h v0 7)] (run gd_P0 d 155 [.ref v0, .int v1] (wI h (up1 (gI h) z1 3 z0))) else none else none else none :=
  (x153_98 ..).trans ((gs_nif ..).trans (ic9 ((x153_101 ..).trans ((x153_102 ..).trans ((gs_if ..).trans (ic9 ((x153_105 ..).trans ((x153_106 ..).trans ((x153_107 ..).trans ((gs_if ..).trans ((ia9 (by simp)).trans (ic9 rfl rfl)))))) rfl)))) rfl))
theorem s153_110 (d : Nat) (h : gd_H) (v0 : Nat) (v1 : Int32) (w2 : Value) (w3 : Value) (z0 : Int32) (z1 : Nat) : go gd_P0 d 153 110 [.ref v0, .int v1, w2, w3] [.int z0, .ref z1] h =
    if gT h z1 = 5 then if gT h v0 = 4 then if gT h v0 = 4 then if gT h (gR h v0 7) = 5 then if gT h v0 = 4 then if gT h v0 = 4 then gc gd_P0 d 153 132 135 [.ref v0, .int v1, .null, .null] [.ref (gR h v0 7)] (run gd_P0 d 158 [.ref v0] (wI h (up1 (up1 (gI h) z1 4 z0) (gR h v0 7) 5 (((up1 (gI h) z1 4 z0) v0 10) - ((up1 (gI h) z1 4 z0) v0 10) / 12 * 12)))) else none else none else none else none else none else none :=
  (x153_110 ..).trans ((gs_nif ..).trans (ic9 ((x153_113 ..).trans ((x153_114 ..).trans ((gs_if ..).trans (ic9 ((x153_117 ..).trans ((x153_118 ..).trans ((gs_if ..).trans (ic9 ((x153_121 ..).trans ((x153_123 ..).trans ((gs_rem (y := (12 : Int32)) (by decide)).trans ((x153_124 ..).trans ((gs_if ..).trans (ic9 ((x153_127 ..).trans ((x153_128 ..).trans ((gs_if ..).trans (ic9 ((x153_131 ..).trans ((x153_132 ..).trans ((gs_if ..).trans ((ia9 (by simp)).trans (ic9 rfl rfl))))) rfl)))) rfl)))))) rfl)))) rfl)))) rfl))
theorem s153_135 (d : Nat) (h : gd_H) (v0 : Nat) (v1 : Int32) (w2 : Value) (w3 : Value) (z0 : Int32) (z1 : Nat) : go gd_P0 d 153 135 [.ref v0, .int v1, w2, w3] [.int z0, .ref z1] h =
    if gT h z1 = 5 then if gT h v0 = 4 then if gT h (gR h v0 7) = 5 then if gT h v0 = 4 then if gT h v0 = 4 then if gT h (gR h v0 8) = 2 then gc gd_P0 d 153 154 157 [.ref v0, .int v1, .null, .null] [] (run gd_P0 d 135 [.ref (gR h v0 8), .ref (gR h v0 7)] (wI h (up1 (up1 (gI h) z1 6 z0) (gR h v0 7) 7 v1))) else none else none else none else none else none else none :=
  (x153_135 ..).trans ((gs_nif ..).trans (ic9 ((x153_138 ..).trans ((x153_139 ..).trans ((gs_if ..).trans (ic9 ((x153_142 ..).trans ((x153_143 ..).trans ((gs_if ..).trans (ic9 ((x153_146 ..).trans ((x153_147 ..).trans ((gs_if ..).trans (ic9 ((x153_150 ..).trans ((x153_151 ..).trans ((gs_if ..).trans (ic9 ((x153_154 ..).trans ((gs_if ..).trans ((ia9 (by simp)).trans (ic9 rfl rfl)))) rfl)))) rfl)))) rfl)))) rfl)))) rfl))
theorem s153_157 (d : Nat) (h : gd_H) (w0 : Value) (w1 : Value) (w2 : Value) (w3 : Value) (z0 : Int32) : go gd_P0 d 153 157 [w0, w1, w2, w3] [.int z0] h =
    some (.inl (some (.int z0)), h) :=
  (x153_157 ..)
theorem r153 (d : Nat) (h : gd_H) (v0 : Nat) (v1 : Int32) : run gd_P0 (d + 1) 153 [.ref v0, .int v1] h = go gd_P0 d 153 0 [.ref v0, .int v1, .null, .null] [] h := run_succ gd_P0 d 153 [.ref v0, .int v1] h (Nat.le_of_ble_eq_true rfl)
theorem x154_0 (d : Nat) (L st : List Value) (h : gd_H) : go gd_P0 d 154 0 L st h = gs gd_P0 d 154 0 L (i_ald 0 1 L st h) := go_eq gd_P0 d 154 0 L st h
theorem x154_1 (d : Nat) (L st : List Value) (h : gd_H) : go gd_P0 d 154 1 L st h = gs gd_P0 d 154 1 L (i_getI 4 13 4 L st h) := go_eq gd_P0 d 154 1 L st h
theorem x154_4 (d : Nat) (L st : List Value) (h : gd_H) : go gd_P0 d 154 4 L st h = gs gd_P0 d 154 4 L (i_psh (.int (-1)) 5 L st h) := go_eq gd_P0 d 154 4 L st h
theorem x154_5 (d : Nat) (L st : List Value) (h : gd_H) : go gd_P0 d 154 5 L st h = gs gd_P0 d 154 5 L (i_icne 26 8 L st h) := go_eq gd_P0 d 154 5 L st h
theorem x154_8 (d : Nat) (L st : List Value) (h : gd_H) : go gd_P0 d 154 8 L st h = gs gd_P0 d 154 8 L (i_ald 0 9 L st h) := go_eq gd_P0 d 154 8 L st h
theorem x154_9 (d : Nat) (L st : List Value) (h : gd_H) : go gd_P0 d 154 9 L st h = gs gd_P0 d 154 9 L (i_getR 4 9 12 L st h) := go_eq gd_P0 d 154 9 L st h
theorem x154_12 (d : Nat) (L st : List Value) (h : gd_H) : go gd_P0 d 154 12 L st h = gs gd_P0 d 154 12 L (i_getR 6 5 15 L st h) := go_eq gd_P0 d 154 12 L st h
theorem x154_15 (d : Nat) (L st : List Value) (h : gd_H) : go gd_P0 d 154 15 L st h = gs gd_P0 d 154 15 L (i_ald 0 16 L st h) := go_eq gd_P0 d 154 15 L st h
theorem x154_16 (d : Nat) (L st : List Value) (h : gd_H) : go gd_P0 d 154 16 L st h = gs gd_P0 d 154 16 L (i_getI 4 10 19 L st h) := go_eq gd_P0 d 154 16 L st h
theorem x154_19 (d : Nat) (L st : List Value) (h : gd_H) : go gd_P0 d 154 19 L st h = gs gd_P0 d 154 19 L (i_psh (.int 12) 21 L st h) := go_eq gd_P0 d 154 19 L st h
theorem x154_21 (d : Nat) (L st : List Value) (h : gd_H) : go gd_P0 d 154 21 L st h = gs gd_P0 d 154 21 L (i_irem 22 L st h) := go_eq gd_P0 d 154 21 L st h
theorem x154_22 (d : Nat) (L st : List Value) (h : gd_H) : go gd_P0 d 154 22 L st h = gs gd_P0 d 154 22 L (i_aldI 31 23 L st h) := go_eq gd_P0 d 154 22 L st h
theorem x154_23 (d : Nat) (L st : List Value) (h : gd_H) : go gd_P0 d 154 23 L st h = gs gd_P0 d 154 23 L (i_goto 30 L st h) := go_eq gd_P0 d 154 23 L st h
theorem x154_26 (d : Nat) (L st : List Value) (h : gd_H) : go gd_P0 d 154 26 L st h = gs gd_P0 d 154 26 L (i_ald 0 27 L st h) := go_eq gd_P0 d 154 26 L st h
theorem x154_27 (d : Nat) (L st : List Value) (h : gd_H) : go gd_P0 d 154 27 L st h = gs gd_P0 d 154 27 L (i_getI 4 13 30 L st h) := go_eq gd_P0 d 154 27 L st h
theorem x154_30 (d : Nat) (L st : List Value) (h : gd_H) : go gd_P0 d 154 30 L st h = gs gd_P0 d 154 30 L (i_msk [false] (i_iret) L st h) := go_eq gd_P0 d 154 30 L st h
theorem s154_0 (d : Nat) (h : gd_H) (v0 : Nat) : go gd_P0 d 154 0 [.ref v0] [] h =
    if gT h v0 = 4 then if (gI h v0 13) = (-1) then if gT h v0 = 4 then if gT h (gR h v0 9) = 6 then if gT h v0 = 4 then if gT h (gR h (gR h v0 9) 5) = 31 ∧ ¬ (((gI h v0 10) - (gI h v0 10) / 12 * 12) < 0 ∨ gL h (gR h (gR h v0 9) 5) ≤ Int32.toNatClampNeg ((gI h v0 10) - (gI h v0 10) / 12 * 12)) then go gd_P0 d 154 30 [.ref v0] [.int (gI h (gR h (gR h v0 9) 5) (Int32.toNatClampNeg ((gI h v0 10) - (gI h v0 10) / 12 * 12)))] h else none else none else none else none else if gT h v0 = 4 then go gd_P0 d 154 30 [.ref v0] [.int (gI h v0 13)] h else none else none :=
  (x154_0 ..).trans ((x154_1 ..).trans ((gs_if ..).trans (ic9 ((x154_4 ..).trans ((x154_5 ..).trans ((gs_if ..).trans (ic9 ((x154_8 ..).trans ((x154_9 ..).trans ((gs_if ..).trans (ic9 ((x154_12 ..).trans ((gs_if ..).trans (ic9 ((x154_15 ..).trans ((x154_16 ..).trans ((gs_if ..).trans (ic9 ((x154_19 ..).trans ((x154_21 ..).trans ((gs_rem (y := (12 : Int32)) (by decide)).trans ((x154_22 ..).trans ((gs_if ..).trans (ic9 ((x154_23 ..)) rfl)))))) rfl)))) rfl))) rfl)))) ((x154_26 ..).trans ((x154_27 ..).trans ((gs_if ..).trans (ic9 (rfl) rfl)))))))) rfl)))
theorem s154_30 (d : Nat) (h : gd_H) (w0 : Value) (z0 : Int32) : go gd_P0 d 154 30 [w0] [.int z0] h =
    some (.inl (some (.int z0)), h) :=
  (x154_30 ..)
theorem r154 (d : Nat) (h : gd_H) (v0 : Nat) : run gd_P0 (d + 1) 154 [.ref v0] h = go gd_P0 d 154 0 [.ref v0] [] h := run_succ gd_P0 d 154 [.ref v0] h (Nat.le_of_ble_eq_true rfl)
theorem x155_0 (d : Nat) (L st : List Value) (h : gd_H) : go gd_P0 d 155 0 L st h = gs gd_P0 d 155 0 L (i_ald 0 1 L st h) := go_eq gd_P0 d 155 0 L st h
theorem x155_1 (d : Nat) (L st : List Value) (h : gd_H) : go gd_P0 d 155 1 L st h = gs gd_P0 d 155 1 L (i_getR 4 3 4 L st h) := go_eq gd_P0 d 155 1 L st h
theorem x155_4 (d : Nat) (L st : List Value) (h : gd_H) : go gd_P0 d 155 4 L st h = gs gd_P0 d 155 4 L (i_ild 1 5 L st h) := go_eq gd_P0 d 155 4 L st h
theorem x155_5 (d : Nat) (L st : List Value) (h : gd_H) : go gd_P0 d 155 5 L st h = gs gd_P0 d 155 5 L (i_aldI 31 6 L st h) := go_eq gd_P0 d 155 5 L st h
theorem x155_6 (d : Nat) (L st : List Value) (h : gd_H) : go gd_P0 d 155 6 L st h = gs gd_P0 d 155 6 L (i_psh (.int (-1)) 7 L st h) := go_eq gd_P0 d 155 6 L st h
theorem x155_7 (d : Nat) (L st : List Value) (h : gd_H) : go gd_P0 d 155 7 L st h = gs gd_P0 d 155 7 L (i_icne 14 10 L st h) := go_eq gd_P0 d 155 7 L st h
theorem x155_10 (d : Nat) (L st : List Value) (h : gd_H) : go gd_P0 d 155 10 L st h = gs gd_P0 d 155 10 L (i_psh (.int 0) 11 L st h) := go_eq gd_P0 d 155 10 L st h
theorem x155_11 (d : Nat) (L st : List Value) (h : gd_H) : go gd_P0 d 155 11 L st h = gs gd_P0 d 155 11 L (i_goto 26 L st h) := go_eq gd_P0 d 155 11 L st h
theorem x155_14 (d : Nat) (L st : List Value) (h : gd_H) : go gd_P0 d 155 14 L st h = gs gd_P0 d 155 14 L (i_ald 0 15 L st h) := go_eq gd_P0 d 155 14 L st h
theorem x155_15 (d : Nat) (L st : List Value) (h : gd_H) : go gd_P0 d 155 15 L st h = gs gd_P0 d 155 15 L (i_getR 4 1 18 L st h) := go_eq gd_P0 d 155 15 L st h
theorem x155_18 (d : Nat) (L st : List Value) (h : gd_H) : go gd_P0 d 155 18 L st h = gs gd_P0 d 155 18 L (i_ild 1 19 L st h) := go_eq gd_P0 d 155 18 L st h
theorem x155_19 (d : Nat) (L st : List Value) (h : gd_H) : go gd_P0 d 155 19 L st h = gs gd_P0 d 155 19 L (i_aldI 31 20 L st h) := go_eq gd_P0 d 155 19 L st h
theorem x155_20 (d : Nat) (L st : List Value) (h : gd_H) : go gd_P0 d 155 20 L st h = gs gd_P0 d 155 20 L (i_ald 0 21 L st h) := go_eq gd_P0 d 155 20 L st h
theorem x155_21 (d : Nat) (L st : List Value) (h : gd_H) : go gd_P0 d 155 21 L st h = gs gd_P0 d 155 21 L (i_ild 1 22 L st h) := go_eq gd_P0 d 155 21 L st h
theorem x155_22 (d : Nat) (L st : List Value) (h : gd_H) : go gd_P0 d 155 22 L st h = gs gd_P0 d 155 22 L (i_cV 156 1 4 25 L st h) := go_eq gd_P0 d 155 22 L st h
theorem x155_25 (d : Nat) (L st : List Value) (h : gd_H) : go gd_P0 d 155 25 L st h = gs gd_P0 d 155 25 L (i_msk [false, false] (i_isub 26) L st h) := go_eq gd_P0 d 155 25 L st h
theorem x155_26 (d : Nat) (L st : List Value) (h : gd_H) : go gd_P0 d 155 26 L st h = gs gd_P0 d 155 26 L (i_msk [false, false] (i_iret) L st h) := go_eq gd_P0 d 155 26 L st h
theorem s155_0 (d : Nat) (h : gd_H) (v0 : Nat) (v1 : Int32) : go gd_P0 d 155 0 [.ref v0, .int v1] [] h =
    if gT h v0 = 4 then if gT h (gR h v0 3) = 31 ∧ ¬ (v1 < 0 ∨ gL h (gR h v0 3) ≤ Int32.toNatClampNeg v1) then if (gI h (gR h v0 3) (Int32.toNatClampNeg v1)) = (-1) then go gd_P0 d 155 26 [.ref v0, .int v1] [.int 0] h else if gT h v0 = 4 then if gT h (gR h v0 1) = 31 ∧ ¬ (v1 < 0 ∨ gL h (gR h v0 1) ≤ Int32.toNatClampNeg v1) then if gT h v0 = 4 then gc gd_P0 d 155 22 25 [.ref v0, .int v1] [.int (gI h (gR h v0 1) (Int32.toNatClampNeg v1))] (run gd_P0 d 156 [.ref v0, .int v1] h) else none else none else none else none else none :=
  (x155_0 ..).trans ((x155_1 ..).trans ((gs_if ..).trans (ic9 ((x155_4 ..).trans ((x155_5 ..).trans ((gs_if ..).trans (ic9 ((x155_6 ..).trans ((x155_7 ..).trans ((gs_if ..).trans (ic9 ((x155_10 ..).trans ((x155_11 ..))) ((x155_14 ..).trans ((x155_15 ..).trans ((gs_if ..).trans (ic9 ((x155_18 ..).trans ((x155_19 ..).trans ((gs_if ..).trans (ic9 ((x155_20 ..).trans ((x155_21 ..).trans ((x155_22 ..).trans ((gs_if ..).trans ((ia9 (by simp)).trans (ic9 rfl rfl)))))) rfl)))) rfl)))))))) rfl)))) rfl)))
theorem s155_25 (d : Nat) (h : gd_H) (w0 : Value) (w1 : Value) (z0 : Int32) (z1 : Int32) : go gd_P0 d 155 25 [w0, w1] [.int z0, .int z1] h =
    go gd_P0 d 155 26 [.null, .null] [.int (z1 - z0)] h :=
  (x155_25 ..)
theorem s155_26 (d : Nat) (h : gd_H) (w0 : Value) (w1 : Value) (z0 : Int32) : go gd_P0 d 155 26 [w0, w1] [.int z0] h =
    some (.inl (some (.int z0)), h) :=
  (x155_26 ..)
theorem r155 (d : Nat) (h : gd_H) (v0 : Nat) (v1 : Int32) : run gd_P0 (d + 1) 155 [.ref v0, .int v1] h = go gd_P0 d 155 0 [.ref v0, .int v1] [] h := run_succ gd_P0 d 155 [.ref v0, .int v1] h (Nat.le_of_ble_eq_true rfl)
theorem x156_0 (d : Nat) (L st : List Value) (h : gd_H) : go gd_P0 d 156 0 L st h = gs gd_P0 d 156 0 L (i_ald 0 1 L st h) := go_eq gd_P0 d 156 0 L st h
theorem x156_1 (d : Nat) (L st : List Value) (h : gd_H) : go gd_P0 d 156 1 L st h = gs gd_P0 d 156 1 L (i_getR 4 3 4 L st h) := go_eq gd_P0 d 156 1 L st h
theorem x156_4 (d : Nat) (L st : List Value) (h : gd_H) : go gd_P0 d 156 4 L st h = gs gd_P0 d 156 4 L (i_ild 1 5 L st h) := go_eq gd_P0 d 156 4 L st h
theorem x156_5 (d : Nat) (L st : List Value) (h : gd_H) : go gd_P0 d 156 5 L st h = gs gd_P0 d 156 5 L (i_aldI 31 6 L st h) := go_eq gd_P0 d 156 5 L st h
theorem x156_6 (d : Nat) (L st : List Value) (h : gd_H) : go gd_P0 d 156 6 L st h = gs gd_P0 d 156 6 L (i_psh (.int (-1)) 7 L st h) := go_eq gd_P0 d 156 6 L st h
theorem x156_7 (d : Nat) (L st : List Value) (h : gd_H) : go gd_P0 d 156 7 L st h = gs gd_P0 d 156 7 L (i_icne 14 10 L st h) := go_eq gd_P0 d 156 7 L st h
theorem x156_10 (d : Nat) (L st : List Value) (h : gd_H) : go gd_P0 d 156 10 L st h = gs gd_P0 d 156 10 L (i_psh (.int 0) 11 L st h) := go_eq gd_P0 d 156 10 L st h
theorem x156_11 (d : Nat) (L st : List Value) (h : gd_H) : go gd_P0 d 156 11 L st h = gs gd_P0 d 156 11 L (i_goto 31 L st h) := go_eq gd_P0 d 156 11 L st h
theorem x156_14 (d : Nat) (L st : List Value) (h : gd_H) : go gd_P0 d 156 14 L st h = gs gd_P0 d 156 14 L (i_ald 0 15 L st h) := go_eq gd_P0 d 156 14 L st h
theorem x156_15 (d : Nat) (L st : List Value) (h : gd_H) : go gd_P0 d 156 15 L st h = gs gd_P0 d 156 15 L (i_ald 0 16 L st h) := go_eq gd_P0 d 156 15 L st h
theorem x156_16 (d : Nat) (L st : List Value) (h : gd_H) : go gd_P0 d 156 16 L st h = gs gd_P0 d 156 16 L (i_getR 4 3 19 L st h) := go_eq gd_P0 d 156 16 L st h
theorem x156_19 (d : Nat) (L st : List Value) (h : gd_H) : go gd_P0 d 156 19 L st h = gs gd_P0 d 156 19 L (i_ild 1 20 L st h) := go_eq gd_P0 d 156 19 L st h
theorem x156_20 (d : Nat) (L st : List Value) (h : gd_H) : go gd_P0 d 156 20 L st h = gs gd_P0 d 156 20 L (i_aldI 31 21 L st h) := go_eq gd_P0 d 156 20 L st h
theorem x156_21 (d : Nat) (L st : List Value) (h : gd_H) : go gd_P0 d 156 21 L st h = gs gd_P0 d 156 21 L (i_cV 157 1 4 24 L st h) := go_eq gd_P0 d 156 21 L st h
theorem x156_24 (d : Nat) (L st : List Value) (h : gd_H) : go gd_P0 d 156 24 L st h = gs gd_P0 d 156 24 L (i_msk [true, true] (i_ald 0 25) L st h) := go_eq gd_P0 d 156 24 L st h
theorem x156_25 (d : Nat) (L st : List Value) (h : gd_H) : go gd_P0 d 156 25 L st h = gs gd_P0 d 156 25 L (i_getR 4 4 28 L st h) := go_eq gd_P0 d 156 25 L st h
theorem x156_28 (d : Nat) (L st : List Value) (h : gd_H) : go gd_P0 d 156 28 L st h = gs gd_P0 d 156 28 L (i_ild 1 29 L st h) := go_eq gd_P0 d 156 28 L st h
theorem x156_29 (d : Nat) (L st : List Value) (h : gd_H) : go gd_P0 d 156 29 L st h = gs gd_P0 d 156 29 L (i_aldI 31 30 L st h) := go_eq gd_P0 d 156 29 L st h
theorem x156_30 (d : Nat) (L st : List Value) (h : gd_H) : go gd_P0 d 156 30 L st h = gs gd_P0 d 156 30 L (i_iadd 31 L st h) := go_eq gd_P0 d 156 30 L st h
theorem x156_31 (d : Nat) (L st : List Value) (h : gd_H) : go gd_P0 d 156 31 L st h = gs gd_P0 d 156 31 L (i_msk [false, false] (i_iret) L st h) := go_eq gd_P0 d 156 31 L st h
theorem s156_0 (d : Nat) (h : gd_H) (v0 : Nat) (v1 : Int32) : go gd_P0 d 156 0 [.ref v0, .int v1] [] h =
    if gT h v0 = 4 then if gT h (gR h v0 3) = 31 ∧ ¬ (v1 < 0 ∨ gL h (gR h v0 3) ≤ Int32.toNatClampNeg v1) then if (gI h (gR h v0 3) (Int32.toNatClampNeg v1)) = (-1) then go gd_P0 d 156 31 [.ref v0, .int v1] [.int 0] h else if gT h v0 = 4 then if gT h (gR h v0 3) = 31 ∧ ¬ (v1 < 0 ∨ gL h (gR h v0 3) ≤ Int32.toNatClampNeg v1) then if gT h v0 = 4 then gc gd_P0 d 156 21 24 [.ref v0, .int v1] [] (run gd_P0 d 157 [.ref v0, .int (gI h (gR h v0 3) (Int32.toNatClampNeg v1))] h) else none else none else none else none else none :=
  (x156_0 ..).trans ((x156_1 ..).trans ((gs_if ..).trans (ic9 ((x156_4 ..).trans ((x156_5 ..).trans ((gs_if ..).trans (ic9 ((x156_6 ..).trans ((x156_7 ..).trans ((gs_if ..).trans (ic9 ((x156_10 ..).trans ((x156_11 ..))) ((x156_14 ..).trans ((x156_15 ..).trans ((x156_16 ..).trans ((gs_if ..).trans (ic9 ((x156_19 ..).trans ((x156_20 ..).trans ((gs_if ..).trans (ic9 ((x156_21 ..).trans ((gs_if ..).trans ((ia9 (by simp)).trans (ic9 rfl rfl)))) rfl)))) rfl))))))))) rfl)))) rfl)))
theorem s156_24 (d : Nat) (h : gd_H) (v0 : Nat) (v1 : Int32) (z0 : Int32) : go gd_P0 d 156 24 [.ref v0, .int v1] [.int z0] h =
    if gT h v0 = 4 then if gT h (gR h v0 4) = 31 ∧ ¬ (v1 < 0 ∨ gL h (gR h v0 4) ≤ Int32.toNatClampNeg v1) then go gd_P0 d 156 31 [.ref v0, .int v1] [.int (z0 + (gI h (gR h v0 4) (Int32.toNatClampNeg v1)))] h else none else none :=
  (x156_24 ..).trans ((x156_25 ..).trans ((gs_if ..).trans (ic9 ((x156_28 ..).trans ((x156_29 ..).trans ((gs_if ..).trans (ic9 ((x156_30 ..)) rfl)))) rfl)))
theorem s156_31 (d : Nat) (h : gd_H) (w0 : Value) (w1 : Value) (z0 : Int32) : go gd_P0 d 156 31 [w0, w1] [.int z0] h =
    some (.inl (some (.int z0)), h) :=
  (x156_31 ..)
theorem r156 (d : Nat) (h : gd_H) (v0 : Nat) (v1 : Int32) : run gd_P0 (d + 1) 156 [.ref v0, .int v1] h = go gd_P0 d 156 0 [.ref v0, .int v1] [] h := run_succ gd_P0 d 156 [.ref v0, .int v1] h (Nat.le_of_ble_eq_true rfl)
theorem x157_0 (d : Nat) (L st : List Value) (h : gd_H) : go gd_P0 d 157 0 L st h = gs gd_P0 d 157 0 L (i_psh (.int 0) 1 L st h) := go_eq gd_P0 d 157 0 L st h
theorem x157_1 (d : Nat) (L st : List Value) (h : gd_H) : go gd_P0 d 157 1 L st h = gs gd_P0 d 157 1 L (i_ist 2 2 L st h) := go_eq gd_P0 d 157 1 L st h
theorem x157_2 (d : Nat) (L st : List Value) (h : gd_H) : go gd_P0 d 157 2 L st h = gs gd_P0 d 157 2 L (i_psh (.int 0) 3 L st h) := go_eq gd_P0 d 157 2 L st h
theorem x157_3 (d : Nat) (L st : List Value) (h : gd_H) : go gd_P0 d 157 3 L st h = gs gd_P0 d 157 3 L (i_ist 3 4 L st h) := go_eq gd_P0 d 157 3 L st h
theorem x157_4 (d : Nat) (L st : List Value) (h : gd_H) : go gd_P0 d 157 4 L st h = gs gd_P0 d 157 4 L (i_msk [true, true, true, true] (i_ild 3 5) L st h) := go_eq gd_P0 d 157 4 L st h
theorem x157_5 (d : Nat) (L st : List Value) (h : gd_H) : go gd_P0 d 157 5 L st h = gs gd_P0 d 157 5 L (i_ild 1 6 L st h) := go_eq gd_P0 d 157 5 L st h
theorem x157_6 (d : Nat) (L st : List Value) (h : gd_H) : go gd_P0 d 157 6 L st h = gs gd_P0 d 157 6 L (i_icge 24 9 L st h) := go_eq gd_P0 d 157 6 L st h
theorem x157_9 (d : Nat) (L st : List Value) (h : gd_H) : go gd_P0 d 157 9 L st h = gs gd_P0 d 157 9 L (i_ild 2 10 L st h) := go_eq gd_P0 d 157 9 L st h
theorem x157_10 (d : Nat) (L st : List Value) (h : gd_H) : go gd_P0 d 157 10 L st h = gs gd_P0 d 157 10 L (i_ald 0 11 L st h) := go_eq gd_P0 d 157 10 L st h
theorem x157_11 (d : Nat) (L st : List Value) (h : gd_H) : go gd_P0 d 157 11 L st h = gs gd_P0 d 157 11 L (i_getR 4 0 14 L st h) := go_eq gd_P0 d 157 11 L st h
theorem x157_14 (d : Nat) (L st : List Value) (h : gd_H) : go gd_P0 d 157 14 L st h = gs gd_P0 d 157 14 L (i_ild 3 15 L st h) := go_eq gd_P0 d 157 14 L st h
theorem x157_15 (d : Nat) (L st : List Value) (h : gd_H) : go gd_P0 d 157 15 L st h = gs gd_P0 d 157 15 L (i_aldI 31 16 L st h) := go_eq gd_P0 d 157 15 L st h
theorem x157_16 (d : Nat) (L st : List Value) (h : gd_H) : go gd_P0 d 157 16 L st h = gs gd_P0 d 157 16 L (i_iadd 17 L st h) := go_eq gd_P0 d 157 16 L st h
theorem x157_17 (d : Nat) (L st : List Value) (h : gd_H) : go gd_P0 d 157 17 L st h = gs gd_P0 d 157 17 L (i_ist 2 18 L st h) := go_eq gd_P0 d 157 17 L st h
theorem x157_18 (d : Nat) (L st : List Value) (h : gd_H) : go gd_P0 d 157 18 L st h = gs gd_P0 d 157 18 L (i_inc 3 1 21 L st h) := go_eq gd_P0 d 157 18 L st h
theorem x157_21 (d : Nat) (L st : List Value) (h : gd_H) : go gd_P0 d 157 21 L st h = gs gd_P0 d 157 21 L (i_goto 4 L st h) := go_eq gd_P0 d 157 21 L st h
theorem x157_24 (d : Nat) (L st : List Value) (h : gd_H) : go gd_P0 d 157 24 L st h = gs gd_P0 d 157 24 L (i_ild 2 25 L st h) := go_eq gd_P0 d 157 24 L st h
theorem x157_25 (d : Nat) (L st : List Value) (h : gd_H) : go gd_P0 d 157 25 L st h = gs gd_P0 d 157 25 L (i_iret L st h) := go_eq gd_P0 d 157 25 L st h
theorem s157_0 (d : Nat) (h : gd_H) (v0 : Nat) (v1 : Int32) : go gd_P0 d 157 0 [.ref v0, .int v1, .null, .null] [] h =
    go gd_P0 d 157 4 [.ref v0, .int v1, .int 0, .int 0] [] h :=
  (x157_0 ..).trans ((x157_1 ..).trans ((x157_2 ..).trans ((x157_3 ..))))
theorem s157_4 (d : Nat) (h : gd_H) (v0 : Nat) (v1 : Int32) (v2 : Int32) (v3 : Int32) : go gd_P0 d 157 4 [.ref v0, .int v1, .int v2, .int v3] [] h =
    if v1 ≤ v3 then some (.inl (some (.int v2)), h) else if gT h v0 = 4 then if gT h (gR h v0 0) = 31 ∧ ¬ (v3 < 0 ∨ gL h (gR h v0 0) ≤ Int32.toNatClampNeg v3) then go gd_P0 d 157 4 [.ref v0, .int v1, .int (v2 + (gI h (gR h v0 0) (Int32.toNatClampNeg v3))), .int (v3 + 1)] [] h else none else none :=
  (x157_4 ..).trans ((x157_5 ..).trans ((x157_6 ..).trans ((gs_if ..).trans (ic9 ((x157_24 ..).trans ((x157_25 ..))) ((x157_9 ..).trans ((x157_10 ..).trans ((x157_11 ..).trans ((gs_if ..).trans (ic9 ((x157_14 ..).trans ((x157_15 ..).trans ((gs_if ..).trans (ic9 ((x157_16 ..).trans ((x157_17 ..).trans ((x157_18 ..).trans ((x157_21 ..))))) rfl)))) rfl)))))))))
theorem r157 (d : Nat) (h : gd_H) (v0 : Nat) (v1 : Int32) : run gd_P0 (d + 1) 157 [.ref v0, .int v1] h = go gd_P0 d 157 0 [.ref v0, .int v1, .null, .null] [] h := run_succ gd_P0 d 157 [.ref v0, .int v1] h (Nat.le_of_ble_eq_true rfl)
theorem x158_0 (d : Nat) (L st : List Value) (h : gd_H) : go gd_P0 d 158 0 L st h = gs gd_P0 d 158 0 L (i_ald 0 1 L st h) := go_eq gd_P0 d 158 0 L st h
theorem x158_1 (d : Nat) (L st : List Value) (h : gd_H) : go gd_P0 d 158 1 L st h = gs gd_P0 d 158 1 L (i_ald 0 2 L st h) := go_eq gd_P0 d 158 1 L st h
theorem x158_2 (d : Nat) (L st : List Value) (h : gd_H) : go gd_P0 d 158 2 L st h = gs gd_P0 d 158 2 L (i_getR 4 9 5 L st h) := go_eq gd_P0 d 158 2 L st h
theorem x158_5 (d : Nat) (L st : List Value) (h : gd_H) : go gd_P0 d 158 5 L st h = gs gd_P0 d 158 5 L (i_getI 6 6 8 L st h) := go_eq gd_P0 d 158 5 L st h
theorem x158_8 (d : Nat) (L st : List Value) (h : gd_H) : go gd_P0 d 158 8 L st h = gs gd_P0 d 158 8 L (i_cV 157 1 4 11 L st h) := go_eq gd_P0 d 158 8 L st h
theorem x158_11 (d : Nat) (L st : List Value) (h : gd_H) : go gd_P0 d 158 11 L st h = gs gd_P0 d 158 11 L (i_msk [false] (i_iret) L st h) := go_eq gd_P0 d 158 11 L st h
theorem s158_0 (d : Nat) (h : gd_H) (v0 : Nat) : go gd_P0 d 158 0 [.ref v0] [] h =
    if gT h v0 = 4 then if gT h (gR h v0 9) = 6 then if gT h v0 = 4 then gc gd_P0 d 158 8 11 [.ref v0] [] (run gd_P0 d 157 [.ref v0, .int (gI h (gR h v0 9) 6)] h) else none else none else none :=
  (x158_0 ..).trans ((x158_1 ..).trans ((x158_2 ..).trans ((gs_if ..).trans (ic9 ((x158_5 ..).trans ((gs_if ..).trans (ic9 ((x158_8 ..).trans ((gs_if ..).trans ((ia9 (by simp)).trans (ic9 rfl rfl)))) rfl))) rfl))))
theorem s158_11 (d : Nat) (h : gd_H) (w0 : Value) (z0 : Int32) : go gd_P0 d 158 11 [w0] [.int z0] h =
    some (.inl (some (.int z0)), h) :=
  (x158_11 ..)
theorem r158 (d : Nat) (h : gd_H) (v0 : Nat) : run gd_P0 (d + 1) 158 [.ref v0] h = go gd_P0 d 158 0 [.ref v0] [] h := run_succ gd_P0 d 158 [.ref v0] h (Nat.le_of_ble_eq_true rfl)
theorem x159_0 (d : Nat) (L st : List Value) (h : gd_H) : go gd_P0 d 159 0 L st h = gs gd_P0 d 159 0 L (i_psh (.int 999) 3 L st h) := go_eq gd_P0 d 159 0 L st h
theorem x159_3 (d : Nat) (L st : List Value) (h : gd_H) : go gd_P0 d 159 3 L st h = gs gd_P0 d 159 3 L (i_ald 0 4 L st h) := go_eq gd_P0 d 159 3 L st h
theorem x159_4 (d : Nat) (L st : List Value) (h : gd_H) : go gd_P0 d 159 4 L st h = gs gd_P0 d 159 4 L (i_getR 4 0 7 L st h) := go_eq gd_P0 d 159 4 L st h
theorem x159_7 (d : Nat) (L st : List Value) (h : gd_H) : go gd_P0 d 159 7 L st h = gs gd_P0 d 159 7 L (i_ild 1 8 L st h) := go_eq gd_P0 d 159 7 L st h
theorem x159_8 (d : Nat) (L st : List Value) (h : gd_H) : go gd_P0 d 159 8 L st h = gs gd_P0 d 159 8 L (i_aldI 31 9 L st h) := go_eq gd_P0 d 159 8 L st h
theorem x159_9 (d : Nat) (L st : List Value) (h : gd_H) : go gd_P0 d 159 9 L st h = gs gd_P0 d 159 9 L (i_psh (.int 0) 10 L st h) := go_eq gd_P0 d 159 9 L st h
theorem x159_10 (d : Nat) (L st : List Value) (h : gd_H) : go gd_P0 d 159 10 L st h = gs gd_P0 d 159 10 L (i_ald 0 11 L st h) := go_eq gd_P0 d 159 10 L st h
theorem x159_11 (d : Nat) (L st : List Value) (h : gd_H) : go gd_P0 d 159 11 L st h = gs gd_P0 d 159 11 L (i_getR 4 9 14 L st h) := go_eq gd_P0 d 159 11 L st h
theorem x159_14 (d : Nat) (L st : List Value) (h : gd_H) : go gd_P0 d 159 14 L st h = gs gd_P0 d 159 14 L (i_getR 6 1 17 L st h) := go_eq gd_P0 d 159 14 L st h
theorem x159_17 (d : Nat) (L st : List Value) (h : gd_H) : go gd_P0 d 159 17 L st h = gs gd_P0 d 159 17 L (i_ild 1 18 L st h) := go_eq gd_P0 d 159 17 L st h
theorem x159_18 (d : Nat) (L st : List Value) (h : gd_H) : go gd_P0 d 159 18 L st h = gs gd_P0 d 159 18 L (i_aldI 31 19 L st h) := go_eq gd_P0 d 159 18 L st h
theorem x159_19 (d : Nat) (L st : List Value) (h : gd_H) : go gd_P0 d 159 19 L st h = gs gd_P0 d 159 19 L (i_ald 0 20 L st h) := go_eq gd_P0 d 159 19 L st h
theorem x159_20 (d : Nat) (L st : List Value) (h : gd_H) : go gd_P0 d 159 20 L st h = gs gd_P0 d 159 20 L (i_cV 154 0 4 23 L st h) := go_eq gd_P0 d 159 20 L st h
theorem x159_23 (d : Nat) (L st : List Value) (h : gd_H) : go gd_P0 d 159 23 L st h = gs gd_P0 d 159 23 L (i_msk [true, true] (i_iadd 24) L st h) := go_eq gd_P0 d 159 23 L st h
theorem x159_24 (d : Nat) (L st : List Value) (h : gd_H) : go gd_P0 d 159 24 L st h = gs gd_P0 d 159 24 L (i_psh (.int 4) 25 L st h) := go_eq gd_P0 d 159 24 L st h
theorem x159_25 (d : Nat) (L st : List Value) (h : gd_H) : go gd_P0 d 159 25 L st h = gs gd_P0 d 159 25 L (i_idiv 26 L st h) := go_eq gd_P0 d 159 25 L st h
theorem x159_26 (d : Nat) (L st : List Value) (h : gd_H) : go gd_P0 d 159 26 L st h = gs gd_P0 d 159 26 L (i_ald 0 27 L st h) := go_eq gd_P0 d 159 26 L st h
theorem x159_27 (d : Nat) (L st : List Value) (h : gd_H) : go gd_P0 d 159 27 L st h = gs gd_P0 d 159 27 L (i_getI 4 11 30 L st h) := go_eq gd_P0 d 159 27 L st h
theorem x159_30 (d : Nat) (L st : List Value) (h : gd_H) : go gd_P0 d 159 30 L st h = gs gd_P0 d 159 30 L (i_isub 31 L st h) := go_eq gd_P0 d 159 30 L st h
theorem x159_31 (d : Nat) (L st : List Value) (h : gd_H) : go gd_P0 d 159 31 L st h = gs gd_P0 d 159 31 L (i_mmax 34 L st h) := go_eq gd_P0 d 159 31 L st h
theorem x159_34 (d : Nat) (L st : List Value) (h : gd_H) : go gd_P0 d 159 34 L st h = gs gd_P0 d 159 34 L (i_msk [true, true] (i_iadd 35) L st h) := go_eq gd_P0 d 159 34 L st h
theorem x159_35 (d : Nat) (L st : List Value) (h : gd_H) : go gd_P0 d 159 35 L st h = gs gd_P0 d 159 35 L (i_mmin 38 L st h) := go_eq gd_P0 d 159 35 L st h
theorem x159_38 (d : Nat) (L st : List Value) (h : gd_H) : go gd_P0 d 159 38 L st h = gs gd_P0 d 159 38 L (i_msk [true, true] (i_ald 0 39) L st h) := go_eq gd_P0 d 159 38 L st h
theorem x159_39 (d : Nat) (L st : List Value) (h : gd_H) : go gd_P0 d 159 39 L st h = gs gd_P0 d 159 39 L (i_getR 4 0 42 L st h) := go_eq gd_P0 d 159 39 L st h
theorem x159_42 (d : Nat) (L st : List Value) (h : gd_H) : go gd_P0 d 159 42 L st h = gs gd_P0 d 159 42 L (i_ild 1 43 L st h) := go_eq gd_P0 d 159 42 L st h
theorem x159_43 (d : Nat) (L st : List Value) (h : gd_H) : go gd_P0 d 159 43 L st h = gs gd_P0 d 159 43 L (i_aldI 31 44 L st h) := go_eq gd_P0 d 159 43 L st h
theorem x159_44 (d : Nat) (L st : List Value) (h : gd_H) : go gd_P0 d 159 44 L st h = gs gd_P0 d 159 44 L (i_isub 45 L st h) := go_eq gd_P0 d 159 44 L st h
theorem x159_45 (d : Nat) (L st : List Value) (h : gd_H) : go gd_P0 d 159 45 L st h = gs gd_P0 d 159 45 L (i_iret L st h) := go_eq gd_P0 d 159 45 L st h
theorem s159_0 (d : Nat) (h : gd_H) (v0 : Nat) (v1 : Int32) : go gd_P0 d 159 0 [.ref v0, .int v1] [] h =
    if gT h v0 = 4 then if gT h (gR h v0 0) = 31 ∧ ¬ (v1 < 0 ∨ gL h (gR h v0 0) ≤ Int32.toNatClampNeg v1) then if gT h v0 = 4 then if gT h (gR h v0 9) = 6 then if gT h (gR h (gR h v0 9) 1) = 31 ∧ ¬ (v1 < 0 ∨ gL h (gR h (gR h v0 9) 1) ≤ Int32.toNatClampNeg v1) then if gT h v0 = 4 then gc gd_P0 d 159 20 23 [.ref v0, .int v1] [.int (gI h (gR h (gR h v0 9) 1) (Int32.toNatClampNeg v1)), .int 0, .int (gI h (gR h v0 0) (Int32.toNatClampNeg v1)), .int 999] (run gd_P0 d 154 [.ref v0] h) else none else none else none else none else none else none :=
  (x159_0 ..).trans ((x159_3 ..).trans ((x159_4 ..).trans ((gs_if ..).trans (ic9 ((x159_7 ..).trans ((x159_8 ..).trans ((gs_if ..).trans (ic9 ((x159_9 ..).trans ((x159_10 ..).trans ((x159_11 ..).trans ((gs_if ..).trans (ic9 ((x159_14 ..).trans ((gs_if ..).trans (ic9 ((x159_17 ..).trans ((x159_18 ..).trans ((gs_if ..).trans (ic9 ((x159_19 ..).trans ((x159_20 ..).trans ((gs_if ..).trans ((ia9 (by simp)).trans (ic9 rfl rfl))))) rfl)))) rfl))) rfl))))) rfl)))) rfl))))
theorem s159_23 (d : Nat) (h : gd_H) (v0 : Nat) (v1 : Int32) (z0 : Int32) (z1 : Int32) (z2 : Int32) (z3 : Int32) (z4 : Int32) : go gd_P0 d 159 23 [.ref v0, .int v1] [.int z0, .int z1, .int z2, .int z3, .int z4] h =
    if gT h v0 = 4 then go gd_P0 d 159 34 [.ref v0, .int v1] [.int (if z2 < (((z1 + z0) / 4) - (gI h v0 11)) then (((z1 + z0) / 4) - (gI h v0 11)) else z2), .int z3, .int z4] h else none :=
  (x159_23 ..).trans ((x159_24 ..).trans ((x159_25 ..).trans ((gs_div (y := (4 : Int32)) (by decide)).trans ((x159_26 ..).trans ((x159_27 ..).trans ((gs_if ..).trans (ic9 ((x159_30 ..).trans ((x159_31 ..))) rfl)))))))
theorem s159_34 (d : Nat) (h : gd_H) (v0 : Nat) (v1 : Int32) (z0 : Int32) (z1 : Int32) (z2 : Int32) : go gd_P0 d 159 34 [.ref v0, .int v1] [.int z0, .int z1, .int z2] h =
    go gd_P0 d 159 38 [.ref v0, .int v1] [.int (if (z1 + z0) < z2 then (z1 + z0) else z2)] h :=
  (x159_34 ..).trans ((x159_35 ..))
theorem s159_38 (d : Nat) (h : gd_H) (v0 : Nat) (v1 : Int32) (z0 : Int32) : go gd_P0 d 159 38 [.ref v0, .int v1] [.int z0] h =
    if gT h v0 = 4 then if gT h (gR h v0 0) = 31 ∧ ¬ (v1 < 0 ∨ gL h (gR h v0 0) ≤ Int32.toNatClampNeg v1) then some (.inl (some (.int (z0 - (gI h (gR h v0 0) (Int32.toNatClampNeg v1))))), h) else none else none :=
  (x159_38 ..).trans ((x159_39 ..).trans ((gs_if ..).trans (ic9 ((x159_42 ..).trans ((x159_43 ..).trans ((gs_if ..).trans (ic9 ((x159_44 ..).trans ((x159_45 ..))) rfl)))) rfl)))
theorem r159 (d : Nat) (h : gd_H) (v0 : Nat) (v1 : Int32) : run gd_P0 (d + 1) 159 [.ref v0, .int v1] h = go gd_P0 d 159 0 [.ref v0, .int v1] [] h := run_succ gd_P0 d 159 [.ref v0, .int v1] h (Nat.le_of_ble_eq_true rfl)
theorem x160_0 (d : Nat) (L st : List Value) (h : gd_H) : go gd_P0 d 160 0 L st h = gs gd_P0 d 160 0 L (i_ald 0 1 L st h) := go_eq gd_P0 d 160 0 L st h
theorem x160_1 (d : Nat) (L st : List Value) (h : gd_H) : go gd_P0 d 160 1 L st h = gs gd_P0 d 160 1 L (i_ild 1 2 L st h) := go_eq gd_P0 d 160 1 L st h
theorem x160_2 (d : Nat) (L st : List Value) (h : gd_H) : go gd_P0 d 160 2 L st h = gs gd_P0 d 160 2 L (i_cV 161 1 4 5 L st h) := go_eq gd_P0 d 160 2 L st h
theorem x160_5 (d : Nat) (L st : List Value) (h : gd_H) : go gd_P0 d 160 5 L st h = gs gd_P0 d 160 5 L (i_msk [true, true] (i_ifeq 21 8) L st h) := go_eq gd_P0 d 160 5 L st h
theorem x160_8 (d : Nat) (L st : List Value) (h : gd_H) : go gd_P0 d 160 8 L st h = gs gd_P0 d 160 8 L (i_ald 0 9 L st h) := go_eq gd_P0 d 160 8 L st h
theorem x160_9 (d : Nat) (L st : List Value) (h : gd_H) : go gd_P0 d 160 9 L st h = gs gd_P0 d 160 9 L (i_getR 4 1 12 L st h) := go_eq gd_P0 d 160 9 L st h
theorem x160_12 (d : Nat) (L st : List Value) (h : gd_H) : go gd_P0 d 160 12 L st h = gs gd_P0 d 160 12 L (i_ild 1 13 L st h) := go_eq gd_P0 d 160 12 L st h
theorem x160_13 (d : Nat) (L st : List Value) (h : gd_H) : go gd_P0 d 160 13 L st h = gs gd_P0 d 160 13 L (i_aldI 31 14 L st h) := go_eq gd_P0 d 160 13 L st h
theorem x160_14 (d : Nat) (L st : List Value) (h : gd_H) : go gd_P0 d 160 14 L st h = gs gd_P0 d 160 14 L (i_ald 0 15 L st h) := go_eq gd_P0 d 160 14 L st h
theorem x160_15 (d : Nat) (L st : List Value) (h : gd_H) : go gd_P0 d 160 15 L st h = gs gd_P0 d 160 15 L (i_cV 158 0 4 18 L st h) := go_eq gd_P0 d 160 15 L st h
theorem x160_18 (d : Nat) (L st : List Value) (h : gd_H) : go gd_P0 d 160 18 L st h = gs gd_P0 d 160 18 L (i_msk [true, true] (i_icle 23 21) L st h) := go_eq gd_P0 d 160 18 L st h
theorem x160_21 (d : Nat) (L st : List Value) (h : gd_H) : go gd_P0 d 160 21 L st h = gs gd_P0 d 160 21 L (i_msk [false, false] (i_psh (.int 0) 22) L st h) := go_eq gd_P0 d 160 21 L st h
theorem x160_22 (d : Nat) (L st : List Value) (h : gd_H) : go gd_P0 d 160 22 L st h = gs gd_P0 d 160 22 L (i_zret L st h) := go_eq gd_P0 d 160 22 L st h
theorem x160_23 (d : Nat) (L st : List Value) (h : gd_H) : go gd_P0 d 160 23 L st h = gs gd_P0 d 160 23 L (i_ald 0 24 L st h) := go_eq gd_P0 d 160 23 L st h
theorem x160_24 (d : Nat) (L st : List Value) (h : gd_H) : go gd_P0 d 160 24 L st h = gs gd_P0 d 160 24 L (i_getR 4 3 27 L st h) := go_eq gd_P0 d 160 24 L st h
theorem x160_27 (d : Nat) (L st : List Value) (h : gd_H) : go gd_P0 d 160 27 L st h = gs gd_P0 d 160 27 L (i_ild 1 28 L st h) := go_eq gd_P0 d 160 27 L st h
theorem x160_28 (d : Nat) (L st : List Value) (h : gd_H) : go gd_P0 d 160 28 L st h = gs gd_P0 d 160 28 L (i_ald 0 29 L st h) := go_eq gd_P0 d 160 28 L st h
theorem x160_29 (d : Nat) (L st : List Value) (h : gd_H) : go gd_P0 d 160 29 L st h = gs gd_P0 d 160 29 L (i_ald 0 30 L st h) := go_eq gd_P0 d 160 29 L st h
theorem x160_30 (d : Nat) (L st : List Value) (h : gd_H) : go gd_P0 d 160 30 L st h = gs gd_P0 d 160 30 L (i_getR 4 1 33 L st h) := go_eq gd_P0 d 160 30 L st h
theorem x160_33 (d : Nat) (L st : List Value) (h : gd_H) : go gd_P0 d 160 33 L st h = gs gd_P0 d 160 33 L (i_ild 1 34 L st h) := go_eq gd_P0 d 160 33 L st h
theorem x160_34 (d : Nat) (L st : List Value) (h : gd_H) : go gd_P0 d 160 34 L st h = gs gd_P0 d 160 34 L (i_aldI 31 35 L st h) := go_eq gd_P0 d 160 34 L st h
theorem x160_35 (d : Nat) (L st : List Value) (h : gd_H) : go gd_P0 d 160 35 L st h = gs gd_P0 d 160 35 L (i_cV 162 1 4 38 L st h) := go_eq gd_P0 d 160 35 L st h
theorem x160_38 (d : Nat) (L st : List Value) (h : gd_H) : go gd_P0 d 160 38 L st h = gs gd_P0 d 160 38 L (i_msk [true, true] (i_astI 39) L st h) := go_eq gd_P0 d 160 38 L st h
theorem x160_39 (d : Nat) (L st : List Value) (h : gd_H) : go gd_P0 d 160 39 L st h = gs gd_P0 d 160 39 L (i_ald 0 40 L st h) := go_eq gd_P0 d 160 39 L st h
theorem x160_40 (d : Nat) (L st : List Value) (h : gd_H) : go gd_P0 d 160 40 L st h = gs gd_P0 d 160 40 L (i_getR 4 4 43 L st h) := go_eq gd_P0 d 160 40 L st h
theorem x160_43 (d : Nat) (L st : List Value) (h : gd_H) : go gd_P0 d 160 43 L st h = gs gd_P0 d 160 43 L (i_ild 1 44 L st h) := go_eq gd_P0 d 160 43 L st h
theorem x160_44 (d : Nat) (L st : List Value) (h : gd_H) : go gd_P0 d 160 44 L st h = gs gd_P0 d 160 44 L (i_ald 0 45 L st h) := go_eq gd_P0 d 160 44 L st h
theorem x160_45 (d : Nat) (L st : List Value) (h : gd_H) : go gd_P0 d 160 45 L st h = gs gd_P0 d 160 45 L (i_getR 4 1 48 L st h) := go_eq gd_P0 d 160 45 L st h
theorem x160_48 (d : Nat) (L st : List Value) (h : gd_H) : go gd_P0 d 160 48 L st h = gs gd_P0 d 160 48 L (i_ild 1 49 L st h) := go_eq gd_P0 d 160 48 L st h
theorem x160_49 (d : Nat) (L st : List Value) (h : gd_H) : go gd_P0 d 160 49 L st h = gs gd_P0 d 160 49 L (i_aldI 31 50 L st h) := go_eq gd_P0 d 160 49 L st h
theorem x160_50 (d : Nat) (L st : List Value) (h : gd_H) : go gd_P0 d 160 50 L st h = gs gd_P0 d 160 50 L (i_ald 0 51 L st h) := go_eq gd_P0 d 160 50 L st h
theorem x160_51 (d : Nat) (L st : List Value) (h : gd_H) : go gd_P0 d 160 51 L st h = gs gd_P0 d 160 51 L (i_ald 0 52 L st h) := go_eq gd_P0 d 160 51 L st h
theorem x160_52 (d : Nat) (L st : List Value) (h : gd_H) : go gd_P0 d 160 52 L st h = gs gd_P0 d 160 52 L (i_getR 4 3 55 L st h) := go_eq gd_P0 d 160 52 L st h
theorem x160_55 (d : Nat) (L st : List Value) (h : gd_H) : go gd_P0 d 160 55 L st h = gs gd_P0 d 160 55 L (i_ild 1 56 L st h) := go_eq gd_P0 d 160 55 L st h
theorem x160_56 (d : Nat) (L st : List Value) (h : gd_H) : go gd_P0 d 160 56 L st h = gs gd_P0 d 160 56 L (i_aldI 31 57 L st h) := go_eq gd_P0 d 160 56 L st h
theorem x160_57 (d : Nat) (L st : List Value) (h : gd_H) : go gd_P0 d 160 57 L st h = gs gd_P0 d 160 57 L (i_cV 157 1 4 60 L st h) := go_eq gd_P0 d 160 57 L st h
theorem x160_60 (d : Nat) (L st : List Value) (h : gd_H) : go gd_P0 d 160 60 L st h = gs gd_P0 d 160 60 L (i_msk [true, true] (i_isub 61) L st h) := go_eq gd_P0 d 160 60 L st h
theorem x160_61 (d : Nat) (L st : List Value) (h : gd_H) : go gd_P0 d 160 61 L st h = gs gd_P0 d 160 61 L (i_astI 62 L st h) := go_eq gd_P0 d 160 61 L st h
theorem x160_62 (d : Nat) (L st : List Value) (h : gd_H) : go gd_P0 d 160 62 L st h = gs gd_P0 d 160 62 L (i_ald 0 63 L st h) := go_eq gd_P0 d 160 62 L st h
theorem x160_63 (d : Nat) (L st : List Value) (h : gd_H) : go gd_P0 d 160 63 L st h = gs gd_P0 d 160 63 L (i_getR 4 5 66 L st h) := go_eq gd_P0 d 160 63 L st h
theorem x160_66 (d : Nat) (L st : List Value) (h : gd_H) : go gd_P0 d 160 66 L st h = gs gd_P0 d 160 66 L (i_ild 1 67 L st h) := go_eq gd_P0 d 160 66 L st h
theorem x160_67 (d : Nat) (L st : List Value) (h : gd_H) : go gd_P0 d 160 67 L st h = gs gd_P0 d 160 67 L (i_ald 0 68 L st h) := go_eq gd_P0 d 160 67 L st h
theorem x160_68 (d : Nat) (L st : List Value) (h : gd_H) : go gd_P0 d 160 68 L st h = gs gd_P0 d 160 68 L (i_getI 4 10 71 L st h) := go_eq gd_P0 d 160 68 L st h
theorem x160_71 (d : Nat) (L st : List Value) (h : gd_H) : go gd_P0 d 160 71 L st h = gs gd_P0 d 160 71 L (i_astI 72 L st h) := go_eq gd_P0 d 160 71 L st h
theorem x160_72 (d : Nat) (L st : List Value) (h : gd_H) : go gd_P0 d 160 72 L st h = gs gd_P0 d 160 72 L (i_psh (.int 1) 73 L st h) := go_eq gd_P0 d 160 72 L st h
theorem x160_73 (d : Nat) (L st : List Value) (h : gd_H) : go gd_P0 d 160 73 L st h = gs gd_P0 d 160 73 L (i_zret L st h) := go_eq gd_P0 d 160 73 L st h
theorem s160_0 (d : Nat) (h : gd_H) (v0 : Nat) (v1 : Int32) : go gd_P0 d 160 0 [.ref v0, .int v1] [] h =
    if gT h v0 = 4 then gc gd_P0 d 160 2 5 [.ref v0, .int v1] [] (run gd_P0 d 161 [.ref v0, .int v1] h) else none :=
  (x160_0 ..).trans ((x160_1 ..).trans ((x160_2 ..).trans ((gs_if ..).trans ((ia9 (by simp)).trans (ic9 rfl rfl)))))
theorem s160_5 (d : Nat) (h : gd_H) (v0 : Nat) (v1 : Int32) (z0 : Int32) : go gd_P0 d 160 5 [.ref v0, .int v1] [.int z0] h =
    if z0 = 0 then go gd_P0 d 160 21 [.ref v0, .int v1] [] h else if gT h v0 = 4 then if gT h (gR h v0 1) = 31 ∧ ¬ (v1 < 0 ∨ gL h (gR h v0 1) ≤ Int32.toNatClampNeg v1) then if gT h v0 = 4 then gc gd_P0 d 160 15 18 [.ref v0, .int v1] [.int (gI h (gR h v0 1) (Int32.toNatClampNeg v1))] (run gd_P0 d 158 [.ref v0] h) else none else none else none :=
  (x160_5 ..).trans ((gs_nif ..).trans (ic9 (rfl) ((x160_8 ..).trans ((x160_9 ..).trans ((gs_if ..).trans (ic9 ((x160_12 ..).trans ((x160_13 ..).trans ((gs_if ..).trans (ic9 ((x160_14 ..).trans ((x160_15 ..).trans ((gs_if ..).trans ((ia9 (by simp)).trans (ic9 rfl rfl))))) rfl)))) rfl))))))
theorem s160_18 (d : Nat) (h : gd_H) (v0 : Nat) (v1 : Int32) (z0 : Int32) (z1 : Int32) : go gd_P0 d 160 18 [.ref v0, .int v1] [.int z0, .int z1] h =
    if z1 ≤ z0 then if gT h v0 = 4 then if gT h v0 = 4 then if gT h (gR h v0 1) = 31 ∧ ¬ (v1 < 0 ∨ gL h (gR h v0 1) ≤ Int32.toNatClampNeg v1) then if gT h v0 = 4 then gc gd_P0 d 160 35 38 [.ref v0, .int v1] [.int v1, .ref (gR h v0 3)] (run gd_P0 d 162 [.ref v0, .int (gI h (gR h v0 1) (Int32.toNatClampNeg v1))] h) else none else none else none else none else go gd_P0 d 160 21 [.ref v0, .int v1] [] h :=
  (x160_18 ..).trans ((gs_nif ..).trans (ic9 ((x160_23 ..).trans ((x160_24 ..).trans ((gs_if ..).trans (ic9 ((x160_27 ..).trans ((x160_28 ..).trans ((x160_29 ..).trans ((x160_30 ..).trans ((gs_if ..).trans (ic9 ((x160_33 ..).trans ((x160_34 ..).trans ((gs_if ..).trans (ic9 ((x160_35 ..).trans ((gs_if ..).trans ((ia9 (by simp)).trans (ic9 rfl rfl)))) rfl)))) rfl)))))) rfl)))) (rfl)))
theorem s160_21 (d : Nat) (h : gd_H) (w0 : Value) (w1 : Value) : go gd_P0 d 160 21 [w0, w1] [] h =
    some (.inl (some (.int 0)), h) :=
  (x160_21 ..).trans ((x160_22 ..))
theorem s160_38 (d : Nat) (h : gd_H) (v0 : Nat) (v1 : Int32) (z0 : Int32) (z1 : Int32) (z2 : Nat) : go gd_P0 d 160 38 [.ref v0, .int v1] [.int z0, .int z1, .ref z2] h =
    if gT h z2 = 31 ∧ ¬ (z1 < 0 ∨ gL h z2 ≤ Int32.toNatClampNeg z1) then if gT h v0 = 4 then if gT h v0 = 4 then if gT h (gR h v0 1) = 31 ∧ ¬ (v1 < 0 ∨ gL h (gR h v0 1) ≤ Int32.toNatClampNeg v1) then if gT h v0 = 4 then if gT h (gR h v0 3) = 31 ∧ ¬ (v1 < 0 ∨ gL h (gR h v0 3) ≤ Int32.toNatClampNeg v1) then if gT h v0 = 4 then gc gd_P0 d 160 57 60 [.ref v0, .int v1] [.int ((up1 (gI h) z2 (Int32.toNatClampNeg z1) z0) (gR h v0 1) (Int32.toNatClampNeg v1)), .int v1, .ref (gR h v0 4)] (run gd_P0 d 157 [.ref v0, .int ((up1 (gI h) z2 (Int32.toNatClampNeg z1) z0) (gR h v0 3) (Int32.toNatClampNeg v1))] (wI h (up1 (gI h) z2 (Int32.toNatClampNeg z1) z0))) else none else none else none else none else none else none else none :=
  (x160_38 ..).trans ((gs_nif ..).trans (ic9 ((x160_39 ..).trans ((x160_40 ..).trans ((gs_if ..).trans (ic9 ((x160_43 ..).trans ((x160_44 ..).trans ((x160_45 ..).trans ((gs_if ..).trans (ic9 ((x160_48 ..).trans ((x160_49 ..).trans ((gs_if ..).trans (ic9 ((x160_50 ..).trans ((x160_51 ..).trans ((x160_52 ..).trans ((gs_if ..).trans (ic9 ((x160_55 ..).trans ((x160_56 ..).trans ((gs_if ..).trans (ic9 ((x160_57 ..).trans ((gs_if ..).trans ((ia9 (by simp)).trans (ic9 rfl rfl)))) rfl)))) rfl))))) rfl)))) rfl))))) rfl)))) rfl))
theorem s160_60 (d : Nat) (h : gd_H) (v0 : Nat) (v1 : Int32) (z0 : Int32) (z1 : Int32) (z2 : Int32) (z3 : Nat) : go gd_P0 d 160 60 [.ref v0, .int v1] [.int z0, .int z1, .int z2, .ref z3] h =
    if gT h z3 = 31 ∧ ¬ (z2 < 0 ∨ gL h z3 ≤ Int32.toNatClampNeg z2) then if gT h v0 = 4 then if gT h v0 = 4 then if gT h (gR h v0 5) = 31 ∧ ¬ (v1 < 0 ∨ gL h (gR h v0 5) ≤ Int32.toNatClampNeg v1) then some (.inl (some (.int 1)), (wI h (up1 (up1 (gI h) z3 (Int32.toNatClampNeg z2) (z1 - z0)) (gR h v0 5) (Int32.toNatClampNeg v1) ((up1 (gI h) z3 (Int32.toNatClampNeg z2) (z1 - z0)) v0 10)))) else none else none else none else none :=
  (x160_60 ..).trans ((x160_61 ..).trans ((gs_if ..).trans (ic9 ((x160_62 ..).trans ((x160_63 ..).trans ((gs_if ..).trans (ic9 ((x160_66 ..).trans ((x160_67 ..).trans ((x160_68 ..).trans ((gs_if ..).trans (ic9 ((x160_71 ..).trans ((gs_if ..).trans (ic9 ((x160_72 ..).trans ((x160_73 ..))) rfl))) rfl))))) rfl)))) rfl)))
theorem r160 (d : Nat) (h : gd_H) (v0 : Nat) (v1 : Int32) : run gd_P0 (d + 1) 160 [.ref v0, .int v1] h = go gd_P0 d 160 0 [.ref v0, .int v1] [] h := run_succ gd_P0 d 160 [.ref v0, .int v1] h (Nat.le_of_ble_eq_true rfl)
theorem x161_0 (d : Nat) (L st : List Value) (h : gd_H) : go gd_P0 d 161 0 L st h = gs gd_P0 d 161 0 L (i_ald 0 1 L st h) := go_eq gd_P0 d 161 0 L st h
theorem x161_1 (d : Nat) (L st : List Value) (h : gd_H) : go gd_P0 d 161 1 L st h = gs gd_P0 d 161 1 L (i_getI 4 12 4 L st h) := go_eq gd_P0 d 161 1 L st h
theorem x161_4 (d : Nat) (L st : List Value) (h : gd_H) : go gd_P0 d 161 4 L st h = gs gd_P0 d 161 4 L (i_ild 1 5 L st h) := go_eq gd_P0 d 161 4 L st h
theorem x161_5 (d : Nat) (L st : List Value) (h : gd_H) : go gd_P0 d 161 5 L st h = gs gd_P0 d 161 5 L (i_ishr 6 L st h) := go_eq gd_P0 d 161 5 L st h
theorem x161_6 (d : Nat) (L st : List Value) (h : gd_H) : go gd_P0 d 161 6 L st h = gs gd_P0 d 161 6 L (i_psh (.int 1) 7 L st h) := go_eq gd_P0 d 161 6 L st h
theorem x161_7 (d : Nat) (L st : List Value) (h : gd_H) : go gd_P0 d 161 7 L st h = gs gd_P0 d 161 7 L (i_iand 8 L st h) := go_eq gd_P0 d 161 7 L st h
theorem x161_8 (d : Nat) (L st : List Value) (h : gd_H) : go gd_P0 d 161 8 L st h = gs gd_P0 d 161 8 L (i_ifne 15 11 L st h) := go_eq gd_P0 d 161 8 L st h
theorem x161_11 (d : Nat) (L st : List Value) (h : gd_H) : go gd_P0 d 161 11 L st h = gs gd_P0 d 161 11 L (i_psh (.int 1) 12 L st h) := go_eq gd_P0 d 161 11 L st h
theorem x161_12 (d : Nat) (L st : List Value) (h : gd_H) : go gd_P0 d 161 12 L st h = gs gd_P0 d 161 12 L (i_goto 16 L st h) := go_eq gd_P0 d 161 12 L st h
theorem x161_15 (d : Nat) (L st : List Value) (h : gd_H) : go gd_P0 d 161 15 L st h = gs gd_P0 d 161 15 L (i_psh (.int 0) 16 L st h) := go_eq gd_P0 d 161 15 L st h
theorem x161_16 (d : Nat) (L st : List Value) (h : gd_H) : go gd_P0 d 161 16 L st h = gs gd_P0 d 161 16 L (i_msk [false, false] (i_zret) L st h) := go_eq gd_P0 d 161 16 L st h
theorem s161_0 (d : Nat) (h : gd_H) (v0 : Nat) (v1 : Int32) : go gd_P0 d 161 0 [.ref v0, .int v1] [] h =
    if gT h v0 = 4 then if (((gI h v0 12) >>> (v1 &&& 31)) &&& (1 : Int32)) = 0 then go gd_P0 d 161 16 [.ref v0, .int v1] [.int 1] h else go gd_P0 d 161 16 [.ref v0, .int v1] [.int 0] h else none :=
  (x161_0 ..).trans ((x161_1 ..).trans ((gs_if ..).trans (ic9 ((x161_4 ..).trans ((x161_5 ..).trans ((x161_6 ..).trans ((x161_7 ..).trans ((x161_8 ..).trans ((gs_if ..).trans (ic9 ((x161_11 ..).trans ((x161_12 ..))) ((x161_15 ..))))))))) rfl)))
theorem s161_16 (d : Nat) (h : gd_H) (w0 : Value) (w1 : Value) (z0 : Int32) : go gd_P0 d 161 16 [w0, w1] [.int z0] h =
    if z0 = 0 ∨ z0 = 1 then some (.inl (some (.int z0)), h) else none :=
  (x161_16 ..).trans ((gs_nif ..).trans (ic9 rfl rfl))
theorem r161 (d : Nat) (h : gd_H) (v0 : Nat) (v1 : Int32) : run gd_P0 (d + 1) 161 [.ref v0, .int v1] h = go gd_P0 d 161 0 [.ref v0, .int v1] [] h := run_succ gd_P0 d 161 [.ref v0, .int v1] h (Nat.le_of_ble_eq_true rfl)
theorem x162_0 (d : Nat) (L st : List Value) (h : gd_H) : go gd_P0 d 162 0 L st h = gs gd_P0 d 162 0 L (i_psh (.int 0) 1 L st h) := go_eq gd_P0 d 162 0 L st h
theorem x162_1 (d : Nat) (L st : List Value) (h : gd_H) : go gd_P0 d 162 1 L st h = gs gd_P0 d 162 1 L (i_ist 2 2 L st h) := go_eq gd_P0 d 162 1 L st h
theorem x162_2 (d : Nat) (L st : List Value) (h : gd_H) : go gd_P0 d 162 2 L st h = gs gd_P0 d 162 2 L (i_msk [true, true, true] (i_ild 2 3) L st h) := go_eq gd_P0 d 162 2 L st h
theorem x162_3 (d : Nat) (L st : List Value) (h : gd_H) : go gd_P0 d 162 3 L st h = gs gd_P0 d 162 3 L (i_ald 0 4 L st h) := go_eq gd_P0 d 162 3 L st h
theorem x162_4 (d : Nat) (L st : List Value) (h : gd_H) : go gd_P0 d 162 4 L st h = gs gd_P0 d 162 4 L (i_getR 4 9 7 L st h) := go_eq gd_P0 d 162 4 L st h
theorem x162_7 (d : Nat) (L st : List Value) (h : gd_H) : go gd_P0 d 162 7 L st h = gs gd_P0 d 162 7 L (i_getI 6 6 10 L st h) := go_eq gd_P0 d 162 7 L st h
theorem x162_10 (d : Nat) (L st : List Value) (h : gd_H) : go gd_P0 d 162 10 L st h = gs gd_P0 d 162 10 L (i_icge 32 13 L st h) := go_eq gd_P0 d 162 10 L st h
theorem x162_13 (d : Nat) (L st : List Value) (h : gd_H) : go gd_P0 d 162 13 L st h = gs gd_P0 d 162 13 L (i_ild 1 14 L st h) := go_eq gd_P0 d 162 13 L st h
theorem x162_14 (d : Nat) (L st : List Value) (h : gd_H) : go gd_P0 d 162 14 L st h = gs gd_P0 d 162 14 L (i_ald 0 15 L st h) := go_eq gd_P0 d 162 14 L st h
theorem x162_15 (d : Nat) (L st : List Value) (h : gd_H) : go gd_P0 d 162 15 L st h = gs gd_P0 d 162 15 L (i_ild 2 16 L st h) := go_eq gd_P0 d 162 15 L st h
theorem x162_16 (d : Nat) (L st : List Value) (h : gd_H) : go gd_P0 d 162 16 L st h = gs gd_P0 d 162 16 L (i_psh (.int 1) 17 L st h) := go_eq gd_P0 d 162 16 L st h
theorem x162_17 (d : Nat) (L st : List Value) (h : gd_H) : go gd_P0 d 162 17 L st h = gs gd_P0 d 162 17 L (i_iadd 18 L st h) := go_eq gd_P0 d 162 17 L st h
theorem x162_18 (d : Nat) (L st : List Value) (h : gd_H) : go gd_P0 d 162 18 L st h = gs gd_P0 d 162 18 L (i_cV 157 1 4 21 L st h) := go_eq gd_P0 d 162 18 L st h
theorem x162_21 (d : Nat) (L st : List Value) (h : gd_H) : go gd_P0 d 162 21 L st h = gs gd_P0 d 162 21 L (i_msk [true, true, true] (i_icgt 26 24) L st h) := go_eq gd_P0 d 162 21 L st h
theorem x162_24 (d : Nat) (L st : List Value) (h : gd_H) : go gd_P0 d 162 24 L st h = gs gd_P0 d 162 24 L (i_ild 2 25 L st h) := go_eq gd_P0 d 162 24 L st h
theorem x162_25 (d : Nat) (L st : List Value) (h : gd_H) : go gd_P0 d 162 25 L st h = gs gd_P0 d 162 25 L (i_iret L st h) := go_eq gd_P0 d 162 25 L st h
theorem x162_26 (d : Nat) (L st : List Value) (h : gd_H) : go gd_P0 d 162 26 L st h = gs gd_P0 d 162 26 L (i_inc 2 1 29 L st h) := go_eq gd_P0 d 162 26 L st h
theorem x162_29 (d : Nat) (L st : List Value) (h : gd_H) : go gd_P0 d 162 29 L st h = gs gd_P0 d 162 29 L (i_goto 2 L st h) := go_eq gd_P0 d 162 29 L st h
theorem x162_32 (d : Nat) (L st : List Value) (h : gd_H) : go gd_P0 d 162 32 L st h = gs gd_P0 d 162 32 L (i_psh (.int (-1)) 33 L st h) := go_eq gd_P0 d 162 32 L st h
theorem x162_33 (d : Nat) (L st : List Value) (h : gd_H) : go gd_P0 d 162 33 L st h = gs gd_P0 d 162 33 L (i_iret L st h) := go_eq gd_P0 d 162 33 L st h
theorem s162_0 (d : Nat) (h : gd_H) (v0 : Nat) (v1 : Int32) : go gd_P0 d 162 0 [.ref v0, .int v1, .null] [] h =
    go gd_P0 d 162 2 [.ref v0, .int v1, .int 0] [] h :=
  (x162_0 ..).trans ((x162_1 ..))
theorem s162_2 (d : Nat) (h : gd_H) (v0 : Nat) (v1 : Int32) (v2 : Int32) : go gd_P0 d 162 2 [.ref v0, .int v1, .int v2] [] h =
    if gT h v0 = 4 then if gT h (gR h v0 9) = 6 then if (gI h (gR h v0 9) 6) ≤ v2 then some (.inl (some (.int (-1))), h) else if gT h v0 = 4 then gc gd_P0 d 162 18 21 [.ref v0, .int v1, .int v2] [.int v1] (run gd_P0 d 157 [.ref v0, .int (v2 + 1)] h) else none else none else none :=
  (x162_2 ..).trans ((x162_3 ..).trans ((x162_4 ..).trans ((gs_if ..).trans (ic9 ((x162_7 ..).trans ((gs_if ..).trans (ic9 ((x162_10 ..).trans ((gs_if ..).trans (ic9 ((x162_32 ..).trans ((x162_33 ..))) ((x162_13 ..).trans ((x162_14 ..).trans ((x162_15 ..).trans ((x162_16 ..).trans ((x162_17 ..).trans ((x162_18 ..).trans ((gs_if ..).trans ((ia9 (by simp)).trans (ic9 rfl rfl)))))))))))) rfl))) rfl))))
theorem s162_21 (d : Nat) (h : gd_H) (v0 : Nat) (v1 : Int32) (v2 : Int32) (z0 : Int32) (z1 : Int32) : go gd_P0 d 162 21 [.ref v0, .int v1, .int v2] [.int z0, .int z1] h =
    if z0 < z1 then go gd_P0 d 162 2 [.ref v0, .int v1, .int (v2 + 1)] [] h else some (.inl (some (.int v2)), h) :=
  (x162_21 ..).trans ((gs_nif ..).trans (ic9 ((x162_26 ..).trans ((x162_29 ..))) ((x162_24 ..).trans ((x162_25 ..)))))
theorem r162 (d : Nat) (h : gd_H) (v0 : Nat) (v1 : Int32) : run gd_P0 (d + 1) 162 [.ref v0, .int v1] h = go gd_P0 d 162 0 [.ref v0, .int v1, .null] [] h := run_succ gd_P0 d 162 [.ref v0, .int v1] h (Nat.le_of_ble_eq_true rfl)
theorem x163_0 (d : Nat) (L st : List Value) (h : gd_H) : go gd_P0 d 163 0 L st h = gs gd_P0 d 163 0 L (i_ald 0 1 L st h) := go_eq gd_P0 d 163 0 L st h
theorem x163_1 (d : Nat) (L st : List Value) (h : gd_H) : go gd_P0 d 163 1 L st h = gs gd_P0 d 163 1 L (i_ild 1 2 L st h) := go_eq gd_P0 d 163 1 L st h
theorem x163_2 (d : Nat) (L st : List Value) (h : gd_H) : go gd_P0 d 163 2 L st h = gs gd_P0 d 163 2 L (i_cV 161 1 4 5 L st h) := go_eq gd_P0 d 163 2 L st h
theorem x163_5 (d : Nat) (L st : List Value) (h : gd_H) : go gd_P0 d 163 5 L st h = gs gd_P0 d 163 5 L (i_msk [true, true, true] (i_ild 2 6) L st h) := go_eq gd_P0 d 163 5 L st h
theorem x163_6 (d : Nat) (L st : List Value) (h : gd_H) : go gd_P0 d 163 6 L st h = gs gd_P0 d 163 6 L (i_icne 11 9 L st h) := go_eq gd_P0 d 163 6 L st h
theorem x163_9 (d : Nat) (L st : List Value) (h : gd_H) : go gd_P0 d 163 9 L st h = gs gd_P0 d 163 9 L (i_psh (.int 0) 10 L st h) := go_eq gd_P0 d 163 9 L st h
theorem x163_10 (d : Nat) (L st : List Value) (h : gd_H) : go gd_P0 d 163 10 L st h = gs gd_P0 d 163 10 L (i_zret L st h) := go_eq gd_P0 d 163 10 L st h
theorem x163_11 (d : Nat) (L st : List Value) (h : gd_H) : go gd_P0 d 163 11 L st h = gs gd_P0 d 163 11 L (i_ald 0 12 L st h) := go_eq gd_P0 d 163 11 L st h
theorem x163_12 (d : Nat) (L st : List Value) (h : gd_H) : go gd_P0 d 163 12 L st h = gs gd_P0 d 163 12 L (i_dup 13 L st h) := go_eq gd_P0 d 163 12 L st h
theorem x163_13 (d : Nat) (L st : List Value) (h : gd_H) : go gd_P0 d 163 13 L st h = gs gd_P0 d 163 13 L (i_getI 4 12 16 L st h) := go_eq gd_P0 d 163 13 L st h
theorem x163_16 (d : Nat) (L st : List Value) (h : gd_H) : go gd_P0 d 163 16 L st h = gs gd_P0 d 163 16 L (i_psh (.int 1) 17 L st h) := go_eq gd_P0 d 163 16 L st h
theorem x163_17 (d : Nat) (L st : List Value) (h : gd_H) : go gd_P0 d 163 17 L st h = gs gd_P0 d 163 17 L (i_ild 1 18 L st h) := go_eq gd_P0 d 163 17 L st h
theorem x163_18 (d : Nat) (L st : List Value) (h : gd_H) : go gd_P0 d 163 18 L st h = gs gd_P0 d 163 18 L (i_ishl 19 L st h) := go_eq gd_P0 d 163 18 L st h
theorem x163_19 (d : Nat) (L st : List Value) (h : gd_H) : go gd_P0 d 163 19 L st h = gs gd_P0 d 163 19 L (i_ixor 20 L st h) := go_eq gd_P0 d 163 19 L st h
theorem x163_20 (d : Nat) (L st : List Value) (h : gd_H) : go gd_P0 d 163 20 L st h = gs gd_P0 d 163 20 L (i_putI 4 12 23 L st h) := go_eq gd_P0 d 163 20 L st h
theorem x163_23 (d : Nat) (L st : List Value) (h : gd_H) : go gd_P0 d 163 23 L st h = gs gd_P0 d 163 23 L (i_psh (.int 1) 24 L st h) := go_eq gd_P0 d 163 23 L st h
theorem x163_24 (d : Nat) (L st : List Value) (h : gd_H) : go gd_P0 d 163 24 L st h = gs gd_P0 d 163 24 L (i_zret L st h) := go_eq gd_P0 d 163 24 L st h
theorem s163_0 (d : Nat) (h : gd_H) (v0 : Nat) (v1 : Int32) (v2 : Int32) : go gd_P0 d 163 0 [.ref v0, .int v1, .int v2] [] h =
    if gT h v0 = 4 then gc gd_P0 d 163 2 5 [.ref v0, .int v1, .int v2] [] (run gd_P0 d 161 [.ref v0, .int v1] h) else none :=
  (x163_0 ..).trans ((x163_1 ..).trans ((x163_2 ..).trans ((gs_if ..).trans ((ia9 (by simp)).trans (ic9 rfl rfl)))))
theorem s163_5 (d : Nat) (h : gd_H) (v0 : Nat) (v1 : Int32) (v2 : Int32) (z0 : Int32) : go gd_P0 d 163 5 [.ref v0, .int v1, .int v2] [.int z0] h =
    if z0 = v2 then some (.inl (some (.int 0)), h) else if gT h v0 = 4 then if gT h v0 = 4 then some (.inl (some (.int 1)), (wI h (up1 (gI h) v0 12 ((gI h v0 12) ^^^ ((1 : Int32) <<< (v1 &&& 31)))))) else none else none :=
  (x163_5 ..).trans ((x163_6 ..).trans ((gs_if ..).trans (ic9 ((x163_9 ..).trans ((x163_10 ..))) ((x163_11 ..).trans ((x163_12 ..).trans ((x163_13 ..).trans ((gs_if ..).trans (ic9 ((x163_16 ..).trans ((x163_17 ..).trans ((x163_18 ..).trans ((x163_19 ..).trans ((x163_20 ..).trans ((gs_if ..).trans (ic9 ((x163_23 ..).trans ((x163_24 ..))) rfl))))))) rfl))))))))
theorem r163 (d : Nat) (h : gd_H) (v0 : Nat) (v1 : Int32) (v2 : Int32) : run gd_P0 (d + 1) 163 [.ref v0, .int v1, .int v2] h = go gd_P0 d 163 0 [.ref v0, .int v1, .int v2] [] h := run_succ gd_P0 d 163 [.ref v0, .int v1, .int v2] h (Nat.le_of_ble_eq_true rfl)
theorem x164_0 (d : Nat) (L st : List Value) (h : gd_H) : go gd_P0 d 164 0 L st h = gs gd_P0 d 164 0 L (i_ald 0 1 L st h) := go_eq gd_P0 d 164 0 L st h
theorem x164_1 (d : Nat) (L st : List Value) (h : gd_H) : go gd_P0 d 164 1 L st h = gs gd_P0 d 164 1 L (i_getR 4 2 4 L st h) := go_eq gd_P0 d 164 1 L st h
theorem x164_4 (d : Nat) (L st : List Value) (h : gd_H) : go gd_P0 d 164 4 L st h = gs gd_P0 d 164 4 L (i_ild 1 5 L st h) := go_eq gd_P0 d 164 4 L st h
theorem x164_5 (d : Nat) (L st : List Value) (h : gd_H) : go gd_P0 d 164 5 L st h = gs gd_P0 d 164 5 L (i_aldI 31 6 L st h) := go_eq gd_P0 d 164 5 L st h
theorem x164_6 (d : Nat) (L st : List Value) (h : gd_H) : go gd_P0 d 164 6 L st h = gs gd_P0 d 164 6 L (i_ild 2 7 L st h) := go_eq gd_P0 d 164 6 L st h
theorem x164_7 (d : Nat) (L st : List Value) (h : gd_H) : go gd_P0 d 164 7 L st h = gs gd_P0 d 164 7 L (i_icne 12 10 L st h) := go_eq gd_P0 d 164 7 L st h
theorem x164_10 (d : Nat) (L st : List Value) (h : gd_H) : go gd_P0 d 164 10 L st h = gs gd_P0 d 164 10 L (i_psh (.int 0) 11 L st h) := go_eq gd_P0 d 164 10 L st h
theorem x164_11 (d : Nat) (L st : List Value) (h : gd_H) : go gd_P0 d 164 11 L st h = gs gd_P0 d 164 11 L (i_zret L st h) := go_eq gd_P0 d 164 11 L st h
theorem x164_12 (d : Nat) (L st : List Value) (h : gd_H) : go gd_P0 d 164 12 L st h = gs gd_P0 d 164 12 L (i_ald 0 13 L st h) := go_eq gd_P0 d 164 12 L st h
theorem x164_13 (d : Nat) (L st : List Value) (h : gd_H) : go gd_P0 d 164 13 L st h = gs gd_P0 d 164 13 L (i_getR 4 2 16 L st h) := go_eq gd_P0 d 164 13 L st h
theorem x164_16 (d : Nat) (L st : List Value) (h : gd_H) : go gd_P0 d 164 16 L st h = gs gd_P0 d 164 16 L (i_ild 1 17 L st h) := go_eq gd_P0 d 164 16 L st h
theorem x164_17 (d : Nat) (L st : List Value) (h : gd_H) : go gd_P0 d 164 17 L st h = gs gd_P0 d 164 17 L (i_ild 2 18 L st h) := go_eq gd_P0 d 164 17 L st h
theorem x164_18 (d : Nat) (L st : List Value) (h : gd_H) : go gd_P0 d 164 18 L st h = gs gd_P0 d 164 18 L (i_astI 19 L st h) := go_eq gd_P0 d 164 18 L st h
theorem x164_19 (d : Nat) (L st : List Value) (h : gd_H) : go gd_P0 d 164 19 L st h = gs gd_P0 d 164 19 L (i_psh (.int 1) 20 L st h) := go_eq gd_P0 d 164 19 L st h
theorem x164_20 (d : Nat) (L st : List Value) (h : gd_H) : go gd_P0 d 164 20 L st h = gs gd_P0 d 164 20 L (i_zret L st h) := go_eq gd_P0 d 164 20 L st h
theorem s164_0 (d : Nat) (h : gd_H) (v0 : Nat) (v1 : Int32) (v2 : Int32) : go gd_P0 d 164 0 [.ref v0, .int v1, .int v2] [] h =
    if gT h v0 = 4 then if gT h (gR h v0 2) = 31 ∧ ¬ (v1 < 0 ∨ gL h (gR h v0 2) ≤ Int32.toNatClampNeg v1) then if (gI h (gR h v0 2) (Int32.toNatClampNeg v1)) = v2 then some (.inl (some (.int 0)), h) else if gT h v0 = 4 then if gT h (gR h v0 2) = 31 ∧ ¬ (v1 < 0 ∨ gL h (gR h v0 2) ≤ Int32.toNatClampNeg v1) then some (.inl (some (.int 1)), (wI h (up1 (gI h) (gR h v0 2) (Int32.toNatClampNeg v1) v2))) else none else none else none else none :=
  (x164_0 ..).trans ((x164_1 ..).trans ((gs_if ..).trans (ic9 ((x164_4 ..).trans ((x164_5 ..).trans ((gs_if ..).trans (ic9 ((x164_6 ..).trans ((x164_7 ..).trans ((gs_if ..).trans (ic9 ((x164_10 ..).trans ((x164_11 ..))) ((x164_12 ..).trans ((x164_13 ..).trans ((gs_if ..).trans (ic9 ((x164_16 ..).trans ((x164_17 ..).trans ((x164_18 ..).trans ((gs_if ..).trans (ic9 ((x164_19 ..).trans ((x164_20 ..))) rfl))))) rfl)))))))) rfl)))) rfl)))
theorem r164 (d : Nat) (h : gd_H) (v0 : Nat) (v1 : Int32) (v2 : Int32) : run gd_P0 (d + 1) 164 [.ref v0, .int v1, .int v2] h = go gd_P0 d 164 0 [.ref v0, .int v1, .int v2] [] h := run_succ gd_P0 d 164 [.ref v0, .int v1, .int v2] h (Nat.le_of_ble_eq_true rfl)
theorem x165_0 (d : Nat) (L st : List Value) (h : gd_H) : go gd_P0 d 165 0 L st h = gs gd_P0 d 165 0 L (i_ald 0 1 L st h) := go_eq gd_P0 d 165 0 L st h
theorem x165_1 (d : Nat) (L st : List Value) (h : gd_H) : go gd_P0 d 165 1 L st h = gs gd_P0 d 165 1 L (i_getI 4 11 4 L st h) := go_eq gd_P0 d 165 1 L st h
theorem x165_4 (d : Nat) (L st : List Value) (h : gd_H) : go gd_P0 d 165 4 L st h = gs gd_P0 d 165 4 L (i_ild 1 5 L st h) := go_eq gd_P0 d 165 4 L st h
theorem x165_5 (d : Nat) (L st : List Value) (h : gd_H) : go gd_P0 d 165 5 L st h = gs gd_P0 d 165 5 L (i_icne 10 8 L st h) := go_eq gd_P0 d 165 5 L st h
theorem x165_8 (d : Nat) (L st : List Value) (h : gd_H) : go gd_P0 d 165 8 L st h = gs gd_P0 d 165 8 L (i_psh (.int 0) 9 L st h) := go_eq gd_P0 d 165 8 L st h
theorem x165_9 (d : Nat) (L st : List Value) (h : gd_H) : go gd_P0 d 165 9 L st h = gs gd_P0 d 165 9 L (i_zret L st h) := go_eq gd_P0 d 165 9 L st h
theorem x165_10 (d : Nat) (L st : List Value) (h : gd_H) : go gd_P0 d 165 10 L st h = gs gd_P0 d 165 10 L (i_ald 0 11 L st h) := go_eq gd_P0 d 165 10 L st h
theorem x165_11 (d : Nat) (L st : List Value) (h : gd_H) : go gd_P0 d 165 11 L st h = gs gd_P0 d 165 11 L (i_ild 1 12 L st h) := go_eq gd_P0 d 165 11 L st h
theorem x165_12 (d : Nat) (L st : List Value) (h : gd_H) : go gd_P0 d 165 12 L st h = gs gd_P0 d 165 12 L (i_putI 4 11 15 L st h) := go_eq gd_P0 d 165 12 L st h
theorem x165_15 (d : Nat) (L st : List Value) (h : gd_H) : go gd_P0 d 165 15 L st h = gs gd_P0 d 165 15 L (i_psh (.int 1) 16 L st h) := go_eq gd_P0 d 165 15 L st h
theorem x165_16 (d : Nat) (L st : List Value) (h : gd_H) : go gd_P0 d 165 16 L st h = gs gd_P0 d 165 16 L (i_zret L st h) := go_eq gd_P0 d 165 16 L st h
theorem s165_0 (d : Nat) (h : gd_H) (v0 : Nat) (v1 : Int32) : go gd_P0 d 165 0 [.ref v0, .int v1] [] h =
    if gT h v0 = 4 then if (gI h v0 11) = v1 then some (.inl (some (.int 0)), h) else if gT h v0 = 4 then some (.inl (some (.int 1)), (wI h (up1 (gI h) v0 11 v1))) else none else none :=
  (x165_0 ..).trans ((x165_1 ..).trans ((gs_if ..).trans (ic9 ((x165_4 ..).trans ((x165_5 ..).trans ((gs_if ..).trans (ic9 ((x165_8 ..).trans ((x165_9 ..))) ((x165_10 ..).trans ((x165_11 ..).trans ((x165_12 ..).trans ((gs_if ..).trans (ic9 ((x165_15 ..).trans ((x165_16 ..))) rfl))))))))) rfl)))
theorem r165 (d : Nat) (h : gd_H) (v0 : Nat) (v1 : Int32) : run gd_P0 (d + 1) 165 [.ref v0, .int v1] h = go gd_P0 d 165 0 [.ref v0, .int v1] [] h := run_succ gd_P0 d 165 [.ref v0, .int v1] h (Nat.le_of_ble_eq_true rfl)
theorem x166_0 (d : Nat) (L st : List Value) (h : gd_H) : go gd_P0 d 166 0 L st h = gs gd_P0 d 166 0 L (i_ald 0 1 L st h) := go_eq gd_P0 d 166 0 L st h
theorem x166_1 (d : Nat) (L st : List Value) (h : gd_H) : go gd_P0 d 166 1 L st h = gs gd_P0 d 166 1 L (i_getR 4 0 4 L st h) := go_eq gd_P0 d 166 1 L st h
theorem x166_4 (d : Nat) (L st : List Value) (h : gd_H) : go gd_P0 d 166 4 L st h = gs gd_P0 d 166 4 L (i_ild 1 5 L st h) := go_eq gd_P0 d 166 4 L st h
theorem x166_5 (d : Nat) (L st : List Value) (h : gd_H) : go gd_P0 d 166 5 L st h = gs gd_P0 d 166 5 L (i_aldI 31 6 L st h) := go_eq gd_P0 d 166 5 L st h
theorem x166_6 (d : Nat) (L st : List Value) (h : gd_H) : go gd_P0 d 166 6 L st h = gs gd_P0 d 166 6 L (i_ild 2 7 L st h) := go_eq gd_P0 d 166 6 L st h
theorem x166_7 (d : Nat) (L st : List Value) (h : gd_H) : go gd_P0 d 166 7 L st h = gs gd_P0 d 166 7 L (i_isub 8 L st h) := go_eq gd_P0 d 166 7 L st h
theorem x166_8 (d : Nat) (L st : List Value) (h : gd_H) : go gd_P0 d 166 8 L st h = gs gd_P0 d 166 8 L (i_psh (.int 1) 9 L st h) := go_eq gd_P0 d 166 8 L st h
theorem x166_9 (d : Nat) (L st : List Value) (h : gd_H) : go gd_P0 d 166 9 L st h = gs gd_P0 d 166 9 L (i_icge 14 12 L st h) := go_eq gd_P0 d 166 9 L st h
theorem x166_12 (d : Nat) (L st : List Value) (h : gd_H) : go gd_P0 d 166 12 L st h = gs gd_P0 d 166 12 L (i_psh (.int 0) 13 L st h) := go_eq gd_P0 d 166 12 L st h
theorem x166_13 (d : Nat) (L st : List Value) (h : gd_H) : go gd_P0 d 166 13 L st h = gs gd_P0 d 166 13 L (i_zret L st h) := go_eq gd_P0 d 166 13 L st h
theorem x166_14 (d : Nat) (L st : List Value) (h : gd_H) : go gd_P0 d 166 14 L st h = gs gd_P0 d 166 14 L (i_ald 0 15 L st h) := go_eq gd_P0 d 166 14 L st h
theorem x166_15 (d : Nat) (L st : List Value) (h : gd_H) : go gd_P0 d 166 15 L st h = gs gd_P0 d 166 15 L (i_getR 4 0 18 L st h) := go_eq gd_P0 d 166 15 L st h
theorem x166_18 (d : Nat) (L st : List Value) (h : gd_H) : go gd_P0 d 166 18 L st h = gs gd_P0 d 166 18 L (i_ild 1 19 L st h) := go_eq gd_P0 d 166 18 L st h
theorem x166_19 (d : Nat) (L st : List Value) (h : gd_H) : go gd_P0 d 166 19 L st h = gs gd_P0 d 166 19 L (i_dup2 20 L st h) := go_eq gd_P0 d 166 19 L st h
theorem x166_20 (d : Nat) (L st : List Value) (h : gd_H) : go gd_P0 d 166 20 L st h = gs gd_P0 d 166 20 L (i_aldI 31 21 L st h) := go_eq gd_P0 d 166 20 L st h
theorem x166_21 (d : Nat) (L st : List Value) (h : gd_H) : go gd_P0 d 166 21 L st h = gs gd_P0 d 166 21 L (i_ild 2 22 L st h) := go_eq gd_P0 d 166 21 L st h
theorem x166_22 (d : Nat) (L st : List Value) (h : gd_H) : go gd_P0 d 166 22 L st h = gs gd_P0 d 166 22 L (i_isub 23 L st h) := go_eq gd_P0 d 166 22 L st h
theorem x166_23 (d : Nat) (L st : List Value) (h : gd_H) : go gd_P0 d 166 23 L st h = gs gd_P0 d 166 23 L (i_astI 24 L st h) := go_eq gd_P0 d 166 23 L st h
theorem x166_24 (d : Nat) (L st : List Value) (h : gd_H) : go gd_P0 d 166 24 L st h = gs gd_P0 d 166 24 L (i_psh (.int 0) 25 L st h) := go_eq gd_P0 d 166 24 L st h
theorem x166_25 (d : Nat) (L st : List Value) (h : gd_H) : go gd_P0 d 166 25 L st h = gs gd_P0 d 166 25 L (i_ist 3 26 L st h) := go_eq gd_P0 d 166 25 L st h
theorem x166_26 (d : Nat) (L st : List Value) (h : gd_H) : go gd_P0 d 166 26 L st h = gs gd_P0 d 166 26 L (i_msk [true, true, false, true] (i_ild 3 27) L st h) := go_eq gd_P0 d 166 26 L st h
theorem x166_27 (d : Nat) (L st : List Value) (h : gd_H) : go gd_P0 d 166 27 L st h = gs gd_P0 d 166 27 L (i_ald 0 28 L st h) := go_eq gd_P0 d 166 27 L st h
theorem x166_28 (d : Nat) (L st : List Value) (h : gd_H) : go gd_P0 d 166 28 L st h = gs gd_P0 d 166 28 L (i_getR 4 9 31 L st h) := go_eq gd_P0 d 166 28 L st h
theorem x166_31 (d : Nat) (L st : List Value) (h : gd_H) : go gd_P0 d 166 31 L st h = gs gd_P0 d 166 31 L (i_getI 6 7 34 L st h) := go_eq gd_P0 d 166 31 L st h
theorem x166_34 (d : Nat) (L st : List Value) (h : gd_H) : go gd_P0 d 166 34 L st h = gs gd_P0 d 166 34 L (i_icge 74 37 L st h) := go_eq gd_P0 d 166 34 L st h
theorem x166_37 (d : Nat) (L st : List Value) (h : gd_H) : go gd_P0 d 166 37 L st h = gs gd_P0 d 166 37 L (i_ald 0 38 L st h) := go_eq gd_P0 d 166 37 L st h
theorem x166_38 (d : Nat) (L st : List Value) (h : gd_H) : go gd_P0 d 166 38 L st h = gs gd_P0 d 166 38 L (i_getR 4 3 41 L st h) := go_eq gd_P0 d 166 38 L st h
theorem x166_41 (d : Nat) (L st : List Value) (h : gd_H) : go gd_P0 d 166 41 L st h = gs gd_P0 d 166 41 L (i_ild 3 42 L st h) := go_eq gd_P0 d 166 41 L st h
theorem x166_42 (d : Nat) (L st : List Value) (h : gd_H) : go gd_P0 d 166 42 L st h = gs gd_P0 d 166 42 L (i_aldI 31 43 L st h) := go_eq gd_P0 d 166 42 L st h
theorem x166_43 (d : Nat) (L st : List Value) (h : gd_H) : go gd_P0 d 166 43 L st h = gs gd_P0 d 166 43 L (i_ild 1 44 L st h) := go_eq gd_P0 d 166 43 L st h
theorem x166_44 (d : Nat) (L st : List Value) (h : gd_H) : go gd_P0 d 166 44 L st h = gs gd_P0 d 166 44 L (i_icne 68 47 L st h) := go_eq gd_P0 d 166 44 L st h
theorem x166_47 (d : Nat) (L st : List Value) (h : gd_H) : go gd_P0 d 166 47 L st h = gs gd_P0 d 166 47 L (i_ald 0 48 L st h) := go_eq gd_P0 d 166 47 L st h
theorem x166_48 (d : Nat) (L st : List Value) (h : gd_H) : go gd_P0 d 166 48 L st h = gs gd_P0 d 166 48 L (i_getR 4 4 51 L st h) := go_eq gd_P0 d 166 48 L st h
theorem x166_51 (d : Nat) (L st : List Value) (h : gd_H) : go gd_P0 d 166 51 L st h = gs gd_P0 d 166 51 L (i_ild 3 52 L st h) := go_eq gd_P0 d 166 51 L st h
theorem x166_52 (d : Nat) (L st : List Value) (h : gd_H) : go gd_P0 d 166 52 L st h = gs gd_P0 d 166 52 L (i_ald 0 53 L st h) := go_eq gd_P0 d 166 52 L st h
theorem x166_53 (d : Nat) (L st : List Value) (h : gd_H) : go gd_P0 d 166 53 L st h = gs gd_P0 d 166 53 L (i_getR 4 4 56 L st h) := go_eq gd_P0 d 166 53 L st h
theorem x166_56 (d : Nat) (L st : List Value) (h : gd_H) : go gd_P0 d 166 56 L st h = gs gd_P0 d 166 56 L (i_ild 3 57 L st h) := go_eq gd_P0 d 166 56 L st h
theorem x166_57 (d : Nat) (L st : List Value) (h : gd_H) : go gd_P0 d 166 57 L st h = gs gd_P0 d 166 57 L (i_aldI 31 58 L st h) := go_eq gd_P0 d 166 57 L st h
theorem x166_58 (d : Nat) (L st : List Value) (h : gd_H) : go gd_P0 d 166 58 L st h = gs gd_P0 d 166 58 L (i_ald 0 59 L st h) := go_eq gd_P0 d 166 58 L st h
theorem x166_59 (d : Nat) (L st : List Value) (h : gd_H) : go gd_P0 d 166 59 L st h = gs gd_P0 d 166 59 L (i_getR 4 0 62 L st h) := go_eq gd_P0 d 166 59 L st h
theorem x166_62 (d : Nat) (L st : List Value) (h : gd_H) : go gd_P0 d 166 62 L st h = gs gd_P0 d 166 62 L (i_ild 1 63 L st h) := go_eq gd_P0 d 166 62 L st h
theorem x166_63 (d : Nat) (L st : List Value) (h : gd_H) : go gd_P0 d 166 63 L st h = gs gd_P0 d 166 63 L (i_aldI 31 64 L st h) := go_eq gd_P0 d 166 63 L st h
theorem x166_64 (d : Nat) (L st : List Value) (h : gd_H) : go gd_P0 d 166 64 L st h = gs gd_P0 d 166 64 L (i_mmin 67 L st h) := go_eq gd_P0 d 166 64 L st h
theorem x166_67 (d : Nat) (L st : List Value) (h : gd_H) : go gd_P0 d 166 67 L st h = gs gd_P0 d 166 67 L (i_msk [true, true, false, true] (i_astI 68) L st h) := go_eq gd_P0 d 166 67 L st h
theorem x166_68 (d : Nat) (L st : List Value) (h : gd_H) : go gd_P0 d 166 68 L st h = gs gd_P0 d 166 68 L (i_msk [true, true, false, true] (i_inc 3 1 71) L st h) := go_eq gd_P0 d 166 68 L st h
theorem x166_71 (d : Nat) (L st : List Value) (h : gd_H) : go gd_P0 d 166 71 L st h = gs gd_P0 d 166 71 L (i_goto 26 L st h) := go_eq gd_P0 d 166 71 L st h
theorem x166_74 (d : Nat) (L st : List Value) (h : gd_H) : go gd_P0 d 166 74 L st h = gs gd_P0 d 166 74 L (i_psh (.int 1) 75 L st h) := go_eq gd_P0 d 166 74 L st h
theorem x166_75 (d : Nat) (L st : List Value) (h : gd_H) : go gd_P0 d 166 75 L st h = gs gd_P0 d 166 75 L (i_zret L st h) := go_eq gd_P0 d 166 75 L st h
theorem s166_0 (d : Nat) (h : gd_H) (v0 : Nat) (v1 : Int32) (v2 : Int32) : go gd_P0 d 166 0 [.ref v0, .int v1, .int v2, .null] [] h =
    if gT h v0 = 4 then if gT h (gR h v0 0) = 31 ∧ ¬ (v1 < 0 ∨ gL h (gR h v0 0) ≤ Int32.toNatClampNeg v1) then if 1 ≤ ((gI h (gR h v0 0) (Int32.toNatClampNeg v1)) - v2) then if gT h v0 = 4 then if gT h (gR h v0 0) = 31 ∧ ¬ (v1 < 0 ∨ gL h (gR h v0 0) ≤ Int32.toNatClampNeg v1) then if gT h (gR h v0 0) = 31 ∧ ¬ (v1 < 0 ∨ gL h (gR h v0 0) ≤ Int32.toNatClampNeg v1) then go gd_P0 d 166 26 [.ref v0, .int v1, .int v2, .int 0] [] (wI h (up1 (gI h) (gR h v0 0) (Int32.toNatClampNeg v1) ((gI h (gR h v0 0) (Int32.toNatClampNeg v1)) - v2))) else none else none else none else some (.inl (some (.int 0)), h) else none else none :=
  (x166_0 ..).trans ((x166_1 ..).trans ((gs_if ..).trans (ic9 ((x166_4 ..).trans ((x166_5 ..).trans ((gs_if ..).trans (ic9 ((x166_6 ..).trans ((x166_7 ..).trans ((x166_8 ..).trans ((x166_9 ..).trans ((gs_if ..).trans (ic9 ((x166_14 ..).trans ((x166_15 ..).trans ((gs_if ..).trans (ic9 ((x166_18 ..).trans ((x166_19 ..).trans ((x166_20 ..).trans ((gs_if ..).trans (ic9 ((x166_21 ..).trans ((x166_22 ..).trans ((x166_23 ..).trans ((gs_if ..).trans (ic9 ((x166_24 ..).trans ((x166_25 ..))) rfl))))) rfl))))) rfl)))) ((x166_12 ..).trans ((x166_13 ..))))))))) rfl)))) rfl)))
theorem s166_26 (d : Nat) (h : gd_H) (v0 : Nat) (v1 : Int32) (w2 : Value) (v3 : Int32) : go gd_P0 d 166 26 [.ref v0, .int v1, w2, .int v3] [] h =
    if gT h v0 = 4 then if gT h (gR h v0 9) = 6 then if (gI h (gR h v0 9) 7) ≤ v3 then some (.inl (some (.int 1)), h) else if gT h v0 = 4 then if gT h (gR h v0 3) = 31 ∧ ¬ (v3 < 0 ∨ gL h (gR h v0 3) ≤ Int32.toNatClampNeg v3) then if (gI h (gR h v0 3) (Int32.toNatClampNeg v3)) = v1 then if gT h v0 = 4 then if gT h v0 = 4 then if gT h (gR h v0 4) = 31 ∧ ¬ (v3 < 0 ∨ gL h (gR h v0 4) ≤ Int32.toNatClampNeg v3) then if gT h v0 = 4 then if gT h (gR h v0 0) = 31 ∧ ¬ (v1 < 0 ∨ gL h (gR h v0 0) ≤ Int32.toNatClampNeg v1) then go gd_P0 d 166 67 [.ref v0, .int v1, .null, .int v3] [.int (if (gI h (gR h v0 0) (Int32.toNatClampNeg v1)) < (gI h (gR h v0 4) (Int32.toNatClampNeg v3)) then (gI h (gR h v0 0) (Int32.toNatClampNeg v1)) else (gI h (gR h v0 4) (Int32.toNatClampNeg v3))), .int v3, .ref (gR h v0 4)] h else none else none else none else none else none else go gd_P0 d 166 68 [.ref v0, .int v1, .null, .int v3] [] h else none else none else none else none :=
  (x166_26 ..).trans ((x166_27 ..).trans ((x166_28 ..).trans ((gs_if ..).trans (ic9 ((x166_31 ..).trans ((gs_if ..).trans (ic9 ((x166_34 ..).trans ((gs_if ..).trans (ic9 ((x166_74 ..).trans ((x166_75 ..))) ((x166_37 ..).trans ((x166_38 ..).trans ((gs_if ..).trans (ic9 ((x166_41 ..).trans ((x166_42 ..).trans ((gs_if ..).trans (ic9 ((x166_43 ..).trans ((x166_44 ..).trans ((gs_if ..).trans (ic9 ((x166_47 ..).trans ((x166_48 ..).trans ((gs_if ..).trans (ic9 ((x166_51 ..).trans ((x166_52 ..).trans ((x166_53 ..).trans ((gs_if ..).trans (ic9 ((x166_56 ..).trans ((x166_57 ..).trans ((gs_if ..).trans (ic9 ((x166_58 ..).trans ((x166_59 ..).trans ((gs_if ..).trans (ic9 ((x166_62 ..).trans ((x166_63 ..).trans ((gs_if ..).trans (ic9 ((x166_64 ..)) rfl)))) rfl)))) rfl)))) rfl))))) rfl)))) (rfl))))) rfl)))) rfl))))))) rfl))) rfl))))
theorem s166_67 (d : Nat) (h : gd_H) (v0 : Nat) (v1 : Int32) (w2 : Value) (v3 : Int32) (z0 : Int32) (z1 : Int32) (z2 : Nat) : go gd_P0 d 166 67 [.ref v0, .int v1, w2, .int v3] [.int z0, .int z1, .ref z2] h =
    if gT h z2 = 31 ∧ ¬ (z1 < 0 ∨ gL h z2 ≤ Int32.toNatClampNeg z1) then go gd_P0 d 166 68 [.ref v0, .int v1, .null, .int v3] [] (wI h (up1 (gI h) z2 (Int32.toNatClampNeg z1) z0)) else none :=
  (x166_67 ..).trans ((gs_nif ..).trans (ic9 (rfl) rfl))
theorem s166_68 (d : Nat) (h : gd_H) (v0 : Nat) (v1 : Int32) (w2 : Value) (v3 : Int32) : go gd_P0 d 166 68 [.ref v0, .int v1, w2, .int v3] [] h =
    go gd_P0 d 166 26 [.ref v0, .int v1, .null, .int (v3 + 1)] [] h :=
  (x166_68 ..).trans ((x166_71 ..))
theorem r166 (d : Nat) (h : gd_H) (v0 : Nat) (v1 : Int32) (v2 : Int32) : run gd_P0 (d + 1) 166 [.ref v0, .int v1, .int v2] h = go gd_P0 d 166 0 [.ref v0, .int v1, .int v2, .null] [] h := run_succ gd_P0 d 166 [.ref v0, .int v1, .int v2] h (Nat.le_of_ble_eq_true rfl)
theorem x167_0 (d : Nat) (L st : List Value) (h : gd_H) : go gd_P0 d 167 0 L st h = gs gd_P0 d 167 0 L (i_psh (.int (-1)) 1 L st h) := go_eq gd_P0 d 167 0 L st h
theorem x167_1 (d : Nat) (L st : List Value) (h : gd_H) : go gd_P0 d 167 1 L st h = gs gd_P0 d 167 1 L (i_ist 1 2 L st h) := go_eq gd_P0 d 167 1 L st h
theorem x167_2 (d : Nat) (L st : List Value) (h : gd_H) : go gd_P0 d 167 2 L st h = gs gd_P0 d 167 2 L (i_psh (.int 0) 3 L st h) := go_eq gd_P0 d 167 2 L st h
theorem x167_3 (d : Nat) (L st : List Value) (h : gd_H) : go gd_P0 d 167 3 L st h = gs gd_P0 d 167 3 L (i_ist 2 4 L st h) := go_eq gd_P0 d 167 3 L st h
theorem x167_4 (d : Nat) (L st : List Value) (h : gd_H) : go gd_P0 d 167 4 L st h = gs gd_P0 d 167 4 L (i_msk [true, true, true] (i_ild 2 5) L st h) := go_eq gd_P0 d 167 4 L st h
theorem x167_5 (d : Nat) (L st : List Value) (h : gd_H) : go gd_P0 d 167 5 L st h = gs gd_P0 d 167 5 L (i_ald 0 6 L st h) := go_eq gd_P0 d 167 5 L st h
theorem x167_6 (d : Nat) (L st : List Value) (h : gd_H) : go gd_P0 d 167 6 L st h = gs gd_P0 d 167 6 L (i_getR 4 9 9 L st h) := go_eq gd_P0 d 167 6 L st h
theorem x167_9 (d : Nat) (L st : List Value) (h : gd_H) : go gd_P0 d 167 9 L st h = gs gd_P0 d 167 9 L (i_getI 6 7 12 L st h) := go_eq gd_P0 d 167 9 L st h
theorem x167_12 (d : Nat) (L st : List Value) (h : gd_H) : go gd_P0 d 167 12 L st h = gs gd_P0 d 167 12 L (i_icge 51 15 L st h) := go_eq gd_P0 d 167 12 L st h
theorem x167_15 (d : Nat) (L st : List Value) (h : gd_H) : go gd_P0 d 167 15 L st h = gs gd_P0 d 167 15 L (i_ald 0 16 L st h) := go_eq gd_P0 d 167 15 L st h
theorem x167_16 (d : Nat) (L st : List Value) (h : gd_H) : go gd_P0 d 167 16 L st h = gs gd_P0 d 167 16 L (i_getR 4 3 19 L st h) := go_eq gd_P0 d 167 16 L st h
theorem x167_19 (d : Nat) (L st : List Value) (h : gd_H) : go gd_P0 d 167 19 L st h = gs gd_P0 d 167 19 L (i_ild 2 20 L st h) := go_eq gd_P0 d 167 19 L st h
theorem x167_20 (d : Nat) (L st : List Value) (h : gd_H) : go gd_P0 d 167 20 L st h = gs gd_P0 d 167 20 L (i_aldI 31 21 L st h) := go_eq gd_P0 d 167 20 L st h
theorem x167_21 (d : Nat) (L st : List Value) (h : gd_H) : go gd_P0 d 167 21 L st h = gs gd_P0 d 167 21 L (i_psh (.int (-1)) 22 L st h) := go_eq gd_P0 d 167 21 L st h
theorem x167_22 (d : Nat) (L st : List Value) (h : gd_H) : go gd_P0 d 167 22 L st h = gs gd_P0 d 167 22 L (i_iceq 45 25 L st h) := go_eq gd_P0 d 167 22 L st h
theorem x167_25 (d : Nat) (L st : List Value) (h : gd_H) : go gd_P0 d 167 25 L st h = gs gd_P0 d 167 25 L (i_ild 1 26 L st h) := go_eq gd_P0 d 167 25 L st h
theorem x167_26 (d : Nat) (L st : List Value) (h : gd_H) : go gd_P0 d 167 26 L st h = gs gd_P0 d 167 26 L (i_psh (.int (-1)) 27 L st h) := go_eq gd_P0 d 167 26 L st h
theorem x167_27 (d : Nat) (L st : List Value) (h : gd_H) : go gd_P0 d 167 27 L st h = gs gd_P0 d 167 27 L (i_iceq 43 30 L st h) := go_eq gd_P0 d 167 27 L st h
theorem x167_30 (d : Nat) (L st : List Value) (h : gd_H) : go gd_P0 d 167 30 L st h = gs gd_P0 d 167 30 L (i_ald 0 31 L st h) := go_eq gd_P0 d 167 30 L st h
theorem x167_31 (d : Nat) (L st : List Value) (h : gd_H) : go gd_P0 d 167 31 L st h = gs gd_P0 d 167 31 L (i_ild 2 32 L st h) := go_eq gd_P0 d 167 31 L st h
theorem x167_32 (d : Nat) (L st : List Value) (h : gd_H) : go gd_P0 d 167 32 L st h = gs gd_P0 d 167 32 L (i_cV 155 1 4 35 L st h) := go_eq gd_P0 d 167 32 L st h
theorem x167_35 (d : Nat) (L st : List Value) (h : gd_H) : go gd_P0 d 167 35 L st h = gs gd_P0 d 167 35 L (i_msk [true, true, true] (i_ald 0 36) L st h) := go_eq gd_P0 d 167 35 L st h
theorem x167_36 (d : Nat) (L st : List Value) (h : gd_H) : go gd_P0 d 167 36 L st h = gs gd_P0 d 167 36 L (i_ild 1 37 L st h) := go_eq gd_P0 d 167 36 L st h
theorem x167_37 (d : Nat) (L st : List Value) (h : gd_H) : go gd_P0 d 167 37 L st h = gs gd_P0 d 167 37 L (i_cV 155 1 4 40 L st h) := go_eq gd_P0 d 167 37 L st h
theorem x167_40 (d : Nat) (L st : List Value) (h : gd_H) : go gd_P0 d 167 40 L st h = gs gd_P0 d 167 40 L (i_msk [true, true, true] (i_icle 45 43) L st h) := go_eq gd_P0 d 167 40 L st h
theorem x167_43 (d : Nat) (L st : List Value) (h : gd_H) : go gd_P0 d 167 43 L st h = gs gd_P0 d 167 43 L (i_msk [true, false, true] (i_ild 2 44) L st h) := go_eq gd_P0 d 167 43 L st h
theorem x167_44 (d : Nat) (L st : List Value) (h : gd_H) : go gd_P0 d 167 44 L st h = gs gd_P0 d 167 44 L (i_ist 1 45 L st h) := go_eq gd_P0 d 167 44 L st h
theorem x167_45 (d : Nat) (L st : List Value) (h : gd_H) : go gd_P0 d 167 45 L st h = gs gd_P0 d 167 45 L (i_msk [true, true, true] (i_inc 2 1 48) L st h) := go_eq gd_P0 d 167 45 L st h
theorem x167_48 (d : Nat) (L st : List Value) (h : gd_H) : go gd_P0 d 167 48 L st h = gs gd_P0 d 167 48 L (i_goto 4 L st h) := go_eq gd_P0 d 167 48 L st h
theorem x167_51 (d : Nat) (L st : List Value) (h : gd_H) : go gd_P0 d 167 51 L st h = gs gd_P0 d 167 51 L (i_ild 1 52 L st h) := go_eq gd_P0 d 167 51 L st h
theorem x167_52 (d : Nat) (L st : List Value) (h : gd_H) : go gd_P0 d 167 52 L st h = gs gd_P0 d 167 52 L (i_iret L st h) := go_eq gd_P0 d 167 52 L st h
theorem s167_0 (d : Nat) (h : gd_H) (v0 : Nat) : go gd_P0 d 167 0 [.ref v0, .null, .null] [] h =
    go gd_P0 d 167 4 [.ref v0, .int (-1), .int 0] [] h :=
  (x167_0 ..).trans ((x167_1 ..).trans ((x167_2 ..).trans ((x167_3 ..))))
theorem s167_4 (d : Nat) (h : gd_H) (v0 : Nat) (v1 : Int32) (v2 : Int32) : go gd_P0 d 167 4 [.ref v0, .int v1, .int v2] [] h =
    if gT h v0 = 4 then if gT h (gR h v0 9) = 6 then if (gI h (gR h v0 9) 7) ≤ v2 then some (.inl (some (.int v1)), h) else if gT h v0 = 4 then if gT h (gR h v0 3) = 31 ∧ ¬ (v2 < 0 ∨ gL h (gR h v0 3) ≤ Int32.toNatClampNeg v2) then if (gI h (gR h v0 3) (Int32.toNatClampNeg v2)) = (-1) then go gd_P0 d 167 45 [.ref v0, .int v1, .int v2] [] h else if v1 = (-1) then go gd_P0 d 167 43 [.ref v0, .int v1, .int v2] [] h else if gT h v0 = 4 then gc gd_P0 d 167 32 35 [.ref v0, .int v1, .int v2] [] (run gd_P0 d 155 [.ref v0, .int v2] h) else none else none else none else none else none :=
  (x167_4 ..).trans ((x167_5 ..).trans ((x167_6 ..).trans ((gs_if ..).trans (ic9 ((x167_9 ..).trans ((gs_if ..).trans (ic9 ((x167_12 ..).trans ((gs_if ..).trans (ic9 ((x167_51 ..).trans ((x167_52 ..))) ((x167_15 ..).trans ((x167_16 ..).trans ((gs_if ..).trans (ic9 ((x167_19 ..).trans ((x167_20 ..).trans ((gs_if ..).trans (ic9 ((x167_21 ..).trans ((x167_22 ..).trans ((gs_if ..).trans (ic9 (rfl) ((x167_25 ..).trans ((x167_26 ..).trans ((x167_27 ..).trans ((gs_if ..).trans (ic9 (rfl) ((x167_30 ..).trans ((x167_31 ..).trans ((x167_32 ..).trans ((gs_if ..).trans ((ia9 (by simp)).trans (ic9 rfl rfl))))))))))))))) rfl)))) rfl))))))) rfl))) rfl))))
theorem s167_35 (d : Nat) (h : gd_H) (v0 : Nat) (v1 : Int32) (v2 : Int32) (z0 : Int32) : go gd_P0 d 167 35 [.ref v0, .int v1, .int v2] [.int z0] h =
    if gT h v0 = 4 then gc gd_P0 d 167 37 40 [.ref v0, .int v1, .int v2] [.int z0] (run gd_P0 d 155 [.ref v0, .int v1] h) else none :=
  (x167_35 ..).trans ((x167_36 ..).trans ((x167_37 ..).trans ((gs_if ..).trans ((ia9 (by simp)).trans (ic9 rfl rfl)))))
theorem s167_40 (d : Nat) (h : gd_H) (v0 : Nat) (v1 : Int32) (v2 : Int32) (z0 : Int32) (z1 : Int32) : go gd_P0 d 167 40 [.ref v0, .int v1, .int v2] [.int z0, .int z1] h =
    if z1 ≤ z0 then go gd_P0 d 167 45 [.ref v0, .int v1, .int v2] [] h else go gd_P0 d 167 43 [.ref v0, .int v1, .int v2] [] h :=
  (x167_40 ..).trans ((gs_nif ..).trans (ic9 (rfl) (rfl)))
theorem s167_43 (d : Nat) (h : gd_H) (v0 : Nat) (w1 : Value) (v2 : Int32) : go gd_P0 d 167 43 [.ref v0, w1, .int v2] [] h =
    go gd_P0 d 167 45 [.ref v0, .int v2, .int v2] [] h :=
  (x167_43 ..).trans ((x167_44 ..))
theorem s167_45 (d : Nat) (h : gd_H) (v0 : Nat) (v1 : Int32) (v2 : Int32) : go gd_P0 d 167 45 [.ref v0, .int v1, .int v2] [] h =
    go gd_P0 d 167 4 [.ref v0, .int v1, .int (v2 + 1)] [] h :=
  (x167_45 ..).trans ((x167_48 ..))
theorem r167 (d : Nat) (h : gd_H) (v0 : Nat) : run gd_P0 (d + 1) 167 [.ref v0] h = go gd_P0 d 167 0 [.ref v0, .null, .null] [] h := run_succ gd_P0 d 167 [.ref v0] h (Nat.le_of_ble_eq_true rfl)
theorem x168_0 (d : Nat) (L st : List Value) (h : gd_H) : go gd_P0 d 168 0 L st h = gs gd_P0 d 168 0 L (i_psh (.int 0) 1 L st h) := go_eq gd_P0 d 168 0 L st h
theorem x168_1 (d : Nat) (L st : List Value) (h : gd_H) : go gd_P0 d 168 1 L st h = gs gd_P0 d 168 1 L (i_ist 1 2 L st h) := go_eq gd_P0 d 168 1 L st h
theorem x168_2 (d : Nat) (L st : List Value) (h : gd_H) : go gd_P0 d 168 2 L st h = gs gd_P0 d 168 2 L (i_psh (.int 0) 3 L st h) := go_eq gd_P0 d 168 2 L st h
theorem x168_3 (d : Nat) (L st : List Value) (h : gd_H) : go gd_P0 d 168 3 L st h = gs gd_P0 d 168 3 L (i_ist 2 4 L st h) := go_eq gd_P0 d 168 3 L st h
theorem x168_4 (d : Nat) (L st : List Value) (h : gd_H) : go gd_P0 d 168 4 L st h = gs gd_P0 d 168 4 L (i_msk [true, true, true] (i_ild 2 5) L st h) := go_eq gd_P0 d 168 4 L st h
theorem x168_5 (d : Nat) (L st : List Value) (h : gd_H) : go gd_P0 d 168 5 L st h = gs gd_P0 d 168 5 L (i_ald 0 6 L st h) := go_eq gd_P0 d 168 5 L st h
theorem x168_6 (d : Nat) (L st : List Value) (h : gd_H) : go gd_P0 d 168 6 L st h = gs gd_P0 d 168 6 L (i_getR 4 9 9 L st h) := go_eq gd_P0 d 168 6 L st h
theorem x168_9 (d : Nat) (L st : List Value) (h : gd_H) : go gd_P0 d 168 9 L st h = gs gd_P0 d 168 9 L (i_getI 6 7 12 L st h) := go_eq gd_P0 d 168 9 L st h
theorem x168_12 (d : Nat) (L st : List Value) (h : gd_H) : go gd_P0 d 168 12 L st h = gs gd_P0 d 168 12 L (i_icge 30 15 L st h) := go_eq gd_P0 d 168 12 L st h
theorem x168_15 (d : Nat) (L st : List Value) (h : gd_H) : go gd_P0 d 168 15 L st h = gs gd_P0 d 168 15 L (i_ild 1 16 L st h) := go_eq gd_P0 d 168 15 L st h
theorem x168_16 (d : Nat) (L st : List Value) (h : gd_H) : go gd_P0 d 168 16 L st h = gs gd_P0 d 168 16 L (i_ald 0 17 L st h) := go_eq gd_P0 d 168 16 L st h
theorem x168_17 (d : Nat) (L st : List Value) (h : gd_H) : go gd_P0 d 168 17 L st h = gs gd_P0 d 168 17 L (i_getR 4 1 20 L st h) := go_eq gd_P0 d 168 17 L st h
theorem x168_20 (d : Nat) (L st : List Value) (h : gd_H) : go gd_P0 d 168 20 L st h = gs gd_P0 d 168 20 L (i_ild 2 21 L st h) := go_eq gd_P0 d 168 20 L st h
theorem x168_21 (d : Nat) (L st : List Value) (h : gd_H) : go gd_P0 d 168 21 L st h = gs gd_P0 d 168 21 L (i_aldI 31 22 L st h) := go_eq gd_P0 d 168 21 L st h
theorem x168_22 (d : Nat) (L st : List Value) (h : gd_H) : go gd_P0 d 168 22 L st h = gs gd_P0 d 168 22 L (i_iadd 23 L st h) := go_eq gd_P0 d 168 22 L st h
theorem x168_23 (d : Nat) (L st : List Value) (h : gd_H) : go gd_P0 d 168 23 L st h = gs gd_P0 d 168 23 L (i_ist 1 24 L st h) := go_eq gd_P0 d 168 23 L st h
theorem x168_24 (d : Nat) (L st : List Value) (h : gd_H) : go gd_P0 d 168 24 L st h = gs gd_P0 d 168 24 L (i_inc 2 1 27 L st h) := go_eq gd_P0 d 168 24 L st h
theorem x168_27 (d : Nat) (L st : List Value) (h : gd_H) : go gd_P0 d 168 27 L st h = gs gd_P0 d 168 27 L (i_goto 4 L st h) := go_eq gd_P0 d 168 27 L st h
theorem x168_30 (d : Nat) (L st : List Value) (h : gd_H) : go gd_P0 d 168 30 L st h = gs gd_P0 d 168 30 L (i_ild 1 31 L st h) := go_eq gd_P0 d 168 30 L st h
theorem x168_31 (d : Nat) (L st : List Value) (h : gd_H) : go gd_P0 d 168 31 L st h = gs gd_P0 d 168 31 L (i_iret L st h) := go_eq gd_P0 d 168 31 L st h
theorem s168_0 (d : Nat) (h : gd_H) (v0 : Nat) : go gd_P0 d 168 0 [.ref v0, .null, .null] [] h =
    go gd_P0 d 168 4 [.ref v0, .int 0, .int 0] [] h :=
  (x168_0 ..).trans ((x168_1 ..).trans ((x168_2 ..).trans ((x168_3 ..))))
theorem s168_4 (d : Nat) (h : gd_H) (v0 : Nat) (v1 : Int32) (v2 : Int32) : go gd_P0 d 168 4 [.ref v0, .int v1, .int v2] [] h =
    if gT h v0 = 4 then if gT h (gR h v0 9) = 6 then if (gI h (gR h v0 9) 7) ≤ v2 then some (.inl (some (.int v1)), h) else if gT h v0 = 4 then if gT h (gR h v0 1) = 31 ∧ ¬ (v2 < 0 ∨ gL h (gR h v0 1) ≤ Int32.toNatClampNeg v2) then go gd_P0 d 168 4 [.ref v0, .int (v1 + (gI h (gR h v0 1) (Int32.toNatClampNeg v2))), .int (v2 + 1)] [] h else none else none else none else none :=
  (x168_4 ..).trans ((x168_5 ..).trans ((x168_6 ..).trans ((gs_if ..).trans (ic9 ((x168_9 ..).trans ((gs_if ..).trans (ic9 ((x168_12 ..).trans ((gs_if ..).trans (ic9 ((x168_30 ..).trans ((x168_31 ..))) ((x168_15 ..).trans ((x168_16 ..).trans ((x168_17 ..).trans ((gs_if ..).trans (ic9 ((x168_20 ..).trans ((x168_21 ..).trans ((gs_if ..).trans (ic9 ((x168_22 ..).trans ((x168_23 ..).trans ((x168_24 ..).trans ((x168_27 ..))))) rfl)))) rfl)))))))) rfl))) rfl))))
theorem r168 (d : Nat) (h : gd_H) (v0 : Nat) : run gd_P0 (d + 1) 168 [.ref v0] h = go gd_P0 d 168 0 [.ref v0, .null, .null] [] h := run_succ gd_P0 d 168 [.ref v0] h (Nat.le_of_ble_eq_true rfl)
theorem x169_0 (d : Nat) (L st : List Value) (h : gd_H) : go gd_P0 d 169 0 L st h = gs gd_P0 d 169 0 L (i_ald 0 1 L st h) := go_eq gd_P0 d 169 0 L st h
theorem x169_1 (d : Nat) (L st : List Value) (h : gd_H) : go gd_P0 d 169 1 L st h = gs gd_P0 d 169 1 L (i_oin 4 L st h) := go_eq gd_P0 d 169 1 L st h
theorem x169_4 (d : Nat) (L st : List Value) (h : gd_H) : go gd_P0 d 169 4 L st h = gs gd_P0 d 169 4 L (i_msk [false] (i_ret) L st h) := go_eq gd_P0 d 169 4 L st h
theorem s169_0 (d : Nat) (h : gd_H) (v0 : Nat) : go gd_P0 d 169 0 [.ref v0] [] h =
    if 4 ≤ v0 then go gd_P0 d 169 4 [.ref v0] [] h else none :=
  (x169_0 ..).trans ((x169_1 ..).trans ((gs_if ..).trans ((ia9 (by simp)).trans (ic9 (rfl) rfl))))
theorem s169_4 (d : Nat) (h : gd_H) (w0 : Value) : go gd_P0 d 169 4 [w0] [] h =
    some (.inl none, h) :=
  (x169_4 ..)
theorem r169 (d : Nat) (h : gd_H) (v0 : Nat) : run gd_P0 (d + 1) 169 [.ref v0] h = go gd_P0 d 169 0 [.ref v0] [] h := run_succ gd_P0 d 169 [.ref v0] h (Nat.le_of_ble_eq_true rfl)
theorem x170_0 (d : Nat) (L st : List Value) (h : gd_H) : go gd_P0 d 170 0 L st h = gs gd_P0 d 170 0 L (i_ild 1 1 L st h) := go_eq gd_P0 d 170 0 L st h
theorem x170_1 (d : Nat) (L st : List Value) (h : gd_H) : go gd_P0 d 170 1 L st h = gs gd_P0 d 170 1 L (i_sw [(0, 44), (1, 49), (2, 54), (3, 59), (4, 64), (5, 69), (6, 74)] 79 L st h) := go_eq gd_P0 d 170 1 L st h
theorem x170_44 (d : Nat) (L st : List Value) (h : gd_H) : go gd_P0 d 170 44 L st h = gs gd_P0 d 170 44 L (i_ald 0 45 L st h) := go_eq gd_P0 d 170 44 L st h
theorem x170_45 (d : Nat) (L st : List Value) (h : gd_H) : go gd_P0 d 170 45 L st h = gs gd_P0 d 170 45 L (i_getI 5 0 48 L st h) := go_eq gd_P0 d 170 45 L st h
theorem x170_48 (d : Nat) (L st : List Value) (h : gd_H) : go gd_P0 d 170 48 L st h = gs gd_P0 d 170 48 L (i_iret L st h) := go_eq gd_P0 d 170 48 L st h
theorem x170_49 (d : Nat) (L st : List Value) (h : gd_H) : go gd_P0 d 170 49 L st h = gs gd_P0 d 170 49 L (i_ald 0 50 L st h) := go_eq gd_P0 d 170 49 L st h
theorem x170_50 (d : Nat) (L st : List Value) (h : gd_H) : go gd_P0 d 170 50 L st h = gs gd_P0 d 170 50 L (i_getI 5 1 53 L st h) := go_eq gd_P0 d 170 50 L st h
theorem x170_53 (d : Nat) (L st : List Value) (h : gd_H) : go gd_P0 d 170 53 L st h = gs gd_P0 d 170 53 L (i_iret L st h) := go_eq gd_P0 d 170 53 L st h
theorem x170_54 (d : Nat) (L st : List Value) (h : gd_H) : go gd_P0 d 170 54 L st h = gs gd_P0 d 170 54 L (i_ald 0 55 L st h) := go_eq gd_P0 d 170 54 L st h
theorem x170_55 (d : Nat) (L st : List Value) (h : gd_H) : go gd_P0 d 170 55 L st h = gs gd_P0 d 170 55 L (i_getI 5 2 58 L st h) := go_eq gd_P0 d 170 55 L st h
theorem x170_58 (d : Nat) (L st : List Value) (h : gd_H) : go gd_P0 d 170 58 L st h = gs gd_P0 d 170 58 L (i_iret L st h) := go_eq gd_P0 d 170 58 L st h
theorem x170_59 (d : Nat) (L st : List Value) (h : gd_H) : go gd_P0 d 170 59 L st h = gs gd_P0 d 170 59 L (i_ald 0 60 L st h) := go_eq gd_P0 d 170 59 L st h
theorem x170_60 (d : Nat) (L st : List Value) (h : gd_H) : go gd_P0 d 170 60 L st h = gs gd_P0 d 170 60 L (i_getI 5 3 63 L st h) := go_eq gd_P0 d 170 60 L st h
theorem x170_63 (d : Nat) (L st : List Value) (h : gd_H) : go gd_P0 d 170 63 L st h = gs gd_P0 d 170 63 L (i_iret L st h) := go_eq gd_P0 d 170 63 L st h
theorem x170_64 (d : Nat) (L st : List Value) (h : gd_H) : go gd_P0 d 170 64 L st h = gs gd_P0 d 170 64 L (i_ald 0 65 L st h) := go_eq gd_P0 d 170 64 L st h
theorem x170_65 (d : Nat) (L st : List Value) (h : gd_H) : go gd_P0 d 170 65 L st h = gs gd_P0 d 170 65 L (i_getI 5 4 68 L st h) := go_eq gd_P0 d 170 65 L st h
theorem x170_68 (d : Nat) (L st : List Value) (h : gd_H) : go gd_P0 d 170 68 L st h = gs gd_P0 d 170 68 L (i_iret L st h) := go_eq gd_P0 d 170 68 L st h
theorem x170_69 (d : Nat) (L st : List Value) (h : gd_H) : go gd_P0 d 170 69 L st h = gs gd_P0 d 170 69 L (i_ald 0 70 L st h) := go_eq gd_P0 d 170 69 L st h
theorem x170_70 (d : Nat) (L st : List Value) (h : gd_H) : go gd_P0 d 170 70 L st h = gs gd_P0 d 170 70 L (i_getI 5 5 73 L st h) := go_eq gd_P0 d 170 70 L st h
theorem x170_73 (d : Nat) (L st : List Value) (h : gd_H) : go gd_P0 d 170 73 L st h = gs gd_P0 d 170 73 L (i_iret L st h) := go_eq gd_P0 d 170 73 L st h
theorem x170_74 (d : Nat) (L st : List Value) (h : gd_H) : go gd_P0 d 170 74 L st h = gs gd_P0 d 170 74 L (i_ald 0 75 L st h) := go_eq gd_P0 d 170 74 L st h
theorem x170_75 (d : Nat) (L st : List Value) (h : gd_H) : go gd_P0 d 170 75 L st h = gs gd_P0 d 170 75 L (i_getI 5 6 78 L st h) := go_eq gd_P0 d 170 75 L st h
theorem x170_78 (d : Nat) (L st : List Value) (h : gd_H) : go gd_P0 d 170 78 L st h = gs gd_P0 d 170 78 L (i_iret L st h) := go_eq gd_P0 d 170 78 L st h
theorem x170_79 (d : Nat) (L st : List Value) (h : gd_H) : go gd_P0 d 170 79 L st h = gs gd_P0 d 170 79 L (i_ald 0 80 L st h) := go_eq gd_P0 d 170 79 L st h
theorem x170_80 (d : Nat) (L st : List Value) (h : gd_H) : go gd_P0 d 170 80 L st h = gs gd_P0 d 170 80 L (i_getI 5 7 83 L st h) := go_eq gd_P0 d 170 80 L st h
theorem x170_83 (d : Nat) (L st : List Value) (h : gd_H) : go gd_P0 d 170 83 L st h = gs gd_P0 d 170 83 L (i_iret L st h) := go_eq gd_P0 d 170 83 L st h
theorem s170_0 (d : Nat) (h : gd_H) (v0 : Nat) (v1 : Int32) : go gd_P0 d 170 0 [.ref v0, .int v1] [] h =
    if v1 = 0 then if gT h v0 = 5 then some (.inl (some (.int (gI h v0 0))), h) else none else if v1 = 1 then if gT h v0 = 5 then some (.inl (some (.int (gI h v0 1))), h) else none else if v1 = 2 then if gT h v0 = 5 then some (.inl (some (.int (gI h v0 2))), h) else none else if v1 = 3 then if gT h v0 = 5 then some (.inl (some (.int (gI h v0 3))), h) else none else if v1 = 4 then if gT h v0 = 5 then some (.inl (some (.int (gI h v0 4))), h) else none else if v1 = 5 then if gT h v0 = 5 then some (.inl (some (.int (gI h v0 5))), h) else none else if v1 = 6 then if gT h v0 = 5 then some (.inl (some (.int (gI h v0 6))), h) else none else if gT h v0 = 5 then some (.inl (some (.int (gI h v0 7))), h) else none :=
  (x170_0 ..).trans ((x170_1 ..).trans ((go_if ..).trans (ic9 ((x170_44 ..).trans ((x170_45 ..).trans ((gs_if ..).trans (ic9 ((x170_48 ..)) rfl)))) ((go_if ..).trans (ic9 ((x170_49 ..).trans ((x170_50 ..).trans ((gs_if ..).trans (ic9 ((x170_53 ..)) rfl)))) ((go_if ..).trans (ic9 ((x170_54 ..).trans ((x170_55 ..).trans ((gs_if ..).trans (ic9 ((x170_58 ..)) rfl)))) ((go_if ..).trans (ic9 ((x170_59 ..).trans ((x170_60 ..).trans ((gs_if ..).trans (ic9 ((x170_63 ..)) rfl)))) ((go_if ..).trans (ic9 ((x170_64 ..).trans ((x170_65 ..).trans ((gs_if ..).trans (ic9 ((x170_68 ..)) rfl)))) ((go_if ..).trans (ic9 ((x170_69 ..).trans ((x170_70 ..).trans ((gs_if ..).trans (ic9 ((x170_73 ..)) rfl)))) ((go_if ..).trans (ic9 ((x170_74 ..).trans ((x170_75 ..).trans ((gs_if ..).trans (ic9 ((x170_78 ..)) rfl)))) ((x170_79 ..).trans ((x170_80 ..).trans ((gs_if ..).trans (ic9 ((x170_83 ..)) rfl)))))))))))))))))))
theorem r170 (d : Nat) (h : gd_H) (v0 : Nat) (v1 : Int32) : run gd_P0 (d + 1) 170 [.ref v0, .int v1] h = go gd_P0 d 170 0 [.ref v0, .int v1] [] h := run_succ gd_P0 d 170 [.ref v0, .int v1] h (Nat.le_of_ble_eq_true rfl)
theorem x171_0 (d : Nat) (L st : List Value) (h : gd_H) : go gd_P0 d 171 0 L st h = gs gd_P0 d 171 0 L (i_ald 0 1 L st h) := go_eq gd_P0 d 171 0 L st h
theorem x171_1 (d : Nat) (L st : List Value) (h : gd_H) : go gd_P0 d 171 1 L st h = gs gd_P0 d 171 1 L (i_oin 4 L st h) := go_eq gd_P0 d 171 1 L st h
theorem x171_4 (d : Nat) (L st : List Value) (h : gd_H) : go gd_P0 d 171 4 L st h = gs gd_P0 d 171 4 L (i_msk [true, false] (i_ald 0 5) L st h) := go_eq gd_P0 d 171 4 L st h
theorem x171_5 (d : Nat) (L st : List Value) (h : gd_H) : go gd_P0 d 171 5 L st h = gs gd_P0 d 171 5 L (i_psh (.int 6) 7 L st h) := go_eq gd_P0 d 171 5 L st h
theorem x171_7 (d : Nat) (L st : List Value) (h : gd_H) : go gd_P0 d 171 7 L st h = gs gd_P0 d 171 7 L (i_newa 31 9 L st h) := go_eq gd_P0 d 171 7 L st h
theorem x171_9 (d : Nat) (L st : List Value) (h : gd_H) : go gd_P0 d 171 9 L st h = gs gd_P0 d 171 9 L (i_putR 6 0 12 L st h) := go_eq gd_P0 d 171 9 L st h
theorem x171_12 (d : Nat) (L st : List Value) (h : gd_H) : go gd_P0 d 171 12 L st h = gs gd_P0 d 171 12 L (i_ald 0 13 L st h) := go_eq gd_P0 d 171 12 L st h
theorem x171_13 (d : Nat) (L st : List Value) (h : gd_H) : go gd_P0 d 171 13 L st h = gs gd_P0 d 171 13 L (i_psh (.int 6) 15 L st h) := go_eq gd_P0 d 171 13 L st h
theorem x171_15 (d : Nat) (L st : List Value) (h : gd_H) : go gd_P0 d 171 15 L st h = gs gd_P0 d 171 15 L (i_newa 31 17 L st h) := go_eq gd_P0 d 171 15 L st h
theorem x171_17 (d : Nat) (L st : List Value) (h : gd_H) : go gd_P0 d 171 17 L st h = gs gd_P0 d 171 17 L (i_putR 6 1 20 L st h) := go_eq gd_P0 d 171 17 L st h
theorem x171_20 (d : Nat) (L st : List Value) (h : gd_H) : go gd_P0 d 171 20 L st h = gs gd_P0 d 171 20 L (i_ald 0 21 L st h) := go_eq gd_P0 d 171 20 L st h
theorem x171_21 (d : Nat) (L st : List Value) (h : gd_H) : go gd_P0 d 171 21 L st h = gs gd_P0 d 171 21 L (i_psh (.int 7) 23 L st h) := go_eq gd_P0 d 171 21 L st h
theorem x171_23 (d : Nat) (L st : List Value) (h : gd_H) : go gd_P0 d 171 23 L st h = gs gd_P0 d 171 23 L (i_newa 31 25 L st h) := go_eq gd_P0 d 171 23 L st h
theorem x171_25 (d : Nat) (L st : List Value) (h : gd_H) : go gd_P0 d 171 25 L st h = gs gd_P0 d 171 25 L (i_putR 6 2 28 L st h) := go_eq gd_P0 d 171 25 L st h
theorem x171_28 (d : Nat) (L st : List Value) (h : gd_H) : go gd_P0 d 171 28 L st h = gs gd_P0 d 171 28 L (i_ald 0 29 L st h) := go_eq gd_P0 d 171 28 L st h
theorem x171_29 (d : Nat) (L st : List Value) (h : gd_H) : go gd_P0 d 171 29 L st h = gs gd_P0 d 171 29 L (i_psh (.int 7) 31 L st h) := go_eq gd_P0 d 171 29 L st h
theorem x171_31 (d : Nat) (L st : List Value) (h : gd_H) : go gd_P0 d 171 31 L st h = gs gd_P0 d 171 31 L (i_newa 31 33 L st h) := go_eq gd_P0 d 171 31 L st h
theorem x171_33 (d : Nat) (L st : List Value) (h : gd_H) : go gd_P0 d 171 33 L st h = gs gd_P0 d 171 33 L (i_putR 6 3 36 L st h) := go_eq gd_P0 d 171 33 L st h
theorem x171_36 (d : Nat) (L st : List Value) (h : gd_H) : go gd_P0 d 171 36 L st h = gs gd_P0 d 171 36 L (i_ald 0 37 L st h) := go_eq gd_P0 d 171 36 L st h
theorem x171_37 (d : Nat) (L st : List Value) (h : gd_H) : go gd_P0 d 171 37 L st h = gs gd_P0 d 171 37 L (i_psh (.int 7) 39 L st h) := go_eq gd_P0 d 171 37 L st h
theorem x171_39 (d : Nat) (L st : List Value) (h : gd_H) : go gd_P0 d 171 39 L st h = gs gd_P0 d 171 39 L (i_newa 31 41 L st h) := go_eq gd_P0 d 171 39 L st h
theorem x171_41 (d : Nat) (L st : List Value) (h : gd_H) : go gd_P0 d 171 41 L st h = gs gd_P0 d 171 41 L (i_putR 6 4 44 L st h) := go_eq gd_P0 d 171 41 L st h
theorem x171_44 (d : Nat) (L st : List Value) (h : gd_H) : go gd_P0 d 171 44 L st h = gs gd_P0 d 171 44 L (i_ald 0 45 L st h) := go_eq gd_P0 d 171 44 L st h
theorem x171_45 (d : Nat) (L st : List Value) (h : gd_H) : go gd_P0 d 171 45 L st h = gs gd_P0 d 171 45 L (i_psh (.int 12) 47 L st h) := go_eq gd_P0 d 171 45 L st h
theorem x171_47 (d : Nat) (L st : List Value) (h : gd_H) : go gd_P0 d 171 47 L st h = gs gd_P0 d 171 47 L (i_newa 31 49 L st h) := go_eq gd_P0 d 171 47 L st h
theorem x171_49 (d : Nat) (L st : List Value) (h : gd_H) : go gd_P0 d 171 49 L st h = gs gd_P0 d 171 49 L (i_putR 6 5 52 L st h) := go_eq gd_P0 d 171 49 L st h
theorem x171_52 (d : Nat) (L st : List Value) (h : gd_H) : go gd_P0 d 171 52 L st h = gs gd_P0 d 171 52 L (i_psh (.int 0) 53 L st h) := go_eq gd_P0 d 171 52 L st h
theorem x171_53 (d : Nat) (L st : List Value) (h : gd_H) : go gd_P0 d 171 53 L st h = gs gd_P0 d 171 53 L (i_ist 1 54 L st h) := go_eq gd_P0 d 171 53 L st h
theorem x171_54 (d : Nat) (L st : List Value) (h : gd_H) : go gd_P0 d 171 54 L st h = gs gd_P0 d 171 54 L (i_msk [true, true] (i_ild 1 55) L st h) := go_eq gd_P0 d 171 54 L st h
theorem x171_55 (d : Nat) (L st : List Value) (h : gd_H) : go gd_P0 d 171 55 L st h = gs gd_P0 d 171 55 L (i_psh (.int 12) 57 L st h) := go_eq gd_P0 d 171 55 L st h
theorem x171_57 (d : Nat) (L st : List Value) (h : gd_H) : go gd_P0 d 171 57 L st h = gs gd_P0 d 171 57 L (i_icge 73 60 L st h) := go_eq gd_P0 d 171 57 L st h
theorem x171_60 (d : Nat) (L st : List Value) (h : gd_H) : go gd_P0 d 171 60 L st h = gs gd_P0 d 171 60 L (i_ald 0 61 L st h) := go_eq gd_P0 d 171 60 L st h
theorem x171_61 (d : Nat) (L st : List Value) (h : gd_H) : go gd_P0 d 171 61 L st h = gs gd_P0 d 171 61 L (i_getR 6 5 64 L st h) := go_eq gd_P0 d 171 61 L st h
theorem x171_64 (d : Nat) (L st : List Value) (h : gd_H) : go gd_P0 d 171 64 L st h = gs gd_P0 d 171 64 L (i_ild 1 65 L st h) := go_eq gd_P0 d 171 64 L st h
theorem x171_65 (d : Nat) (L st : List Value) (h : gd_H) : go gd_P0 d 171 65 L st h = gs gd_P0 d 171 65 L (i_psh (.int 3) 66 L st h) := go_eq gd_P0 d 171 65 L st h
theorem x171_66 (d : Nat) (L st : List Value) (h : gd_H) : go gd_P0 d 171 66 L st h = gs gd_P0 d 171 66 L (i_astI 67 L st h) := go_eq gd_P0 d 171 66 L st h
theorem x171_67 (d : Nat) (L st : List Value) (h : gd_H) : go gd_P0 d 171 67 L st h = gs gd_P0 d 171 67 L (i_inc 1 1 70 L st h) := go_eq gd_P0 d 171 67 L st h
theorem x171_70 (d : Nat) (L st : List Value) (h : gd_H) : go gd_P0 d 171 70 L st h = gs gd_P0 d 171 70 L (i_goto 54 L st h) := go_eq gd_P0 d 171 70 L st h
theorem x171_73 (d : Nat) (L st : List Value) (h : gd_H) : go gd_P0 d 171 73 L st h = gs gd_P0 d 171 73 L (i_ret L st h) := go_eq gd_P0 d 171 73 L st h
theorem s171_0 (d : Nat) (h : gd_H) (v0 : Nat) : go gd_P0 d 171 0 [.ref v0, .null] [] h =
    if 4 ≤ v0 then go gd_P0 d 171 4 [.ref v0, .null] [] h else none :=
  (x171_0 ..).trans ((x171_1 ..).trans ((gs_if ..).trans ((ia9 (by simp)).trans (ic9 (rfl) rfl))))
theorem s171_4 (d : Nat) (h : gd_H) (v0 : Nat) (w1 : Value) : go gd_P0 d 171 4 [.ref v0, w1] [] h =
    go gd_P0 d 171 9 [.ref v0, .null] [.ref (gS h), .ref v0] (nw h 31 (Int32.toNatClampNeg 6) (Int32.toNatClampNeg 6)) :=
  (x171_4 ..).trans ((x171_5 ..).trans ((x171_7 ..)))
theorem s171_9 (d : Nat) (h : gd_H) (v0 : Nat) (w1 : Value) (z0 : Nat) (z1 : Nat) : go gd_P0 d 171 9 [.ref v0, w1] [.ref z0, .ref z1] h =
    if gT h z1 = 6 then go gd_P0 d 171 17 [.ref v0, w1] [.ref (gS h), .ref v0] (nw (wR h (up1 (gR h) z1 0 z0)) 31 (Int32.toNatClampNeg 6) (Int32.toNatClampNeg 6)) else none :=
  (x171_9 ..).trans ((gs_if ..).trans (ic9 ((x171_12 ..).trans ((x171_13 ..).trans ((x171_15 ..)))) rfl))
theorem s171_17 (d : Nat) (h : gd_H) (v0 : Nat) (w1 : Value) (z0 : Nat) (z1 : Nat) : go gd_P0 d 171 17 [.ref v0, w1] [.ref z0, .ref z1] h =
    if gT h z1 = 6 then go gd_P0 d 171 25 [.ref v0, w1] [.ref (gS h), .ref v0] (nw (wR h (up1 (gR h) z1 1 z0)) 31 (Int32.toNatClampNeg 7) (Int32.toNatClampNeg 7)) else none :=
  (x171_17 ..).trans ((gs_if ..).trans (ic9 ((x171_20 ..).trans ((x171_21 ..).trans ((x171_23 ..)))) rfl))
theorem s171_25 (d : Nat) (h : gd_H) (v0 : Nat) (w1 : Value) (z0 : Nat) (z1 : Nat) : go gd_P0 d 171 25 [.ref v0, w1] [.ref z0, .ref z1] h =
    if gT h z1 = 6 then go gd_P0 d 171 33 [.ref v0, w1] [.ref (gS h), .ref v0] (nw (wR h (up1 (gR h) z1 2 z0)) 31 (Int32.toNatClampNeg 7) (Int32.toNatClampNeg 7)) else none :=
  (x171_25 ..).trans ((gs_if ..).trans (ic9 ((x171_28 ..).trans ((x171_29 ..).trans ((x171_31 ..)))) rfl))
theorem s171_33 (d : Nat) (h : gd_H) (v0 : Nat) (w1 : Value) (z0 : Nat) (z1 : Nat) : go gd_P0 d 171 33 [.ref v0, w1] [.ref z0, .ref z1] h =
    if gT h z1 = 6 then go gd_P0 d 171 41 [.ref v0, w1] [.ref (gS h), .ref v0] (nw (wR h (up1 (gR h) z1 3 z0)) 31 (Int32.toNatClampNeg 7) (Int32.toNatClampNeg 7)) else none :=
  (x171_33 ..).trans ((gs_if ..).trans (ic9 ((x171_36 ..).trans ((x171_37 ..).trans ((x171_39 ..)))) rfl))
theorem s171_41 (d : Nat) (h : gd_H) (v0 : Nat) (w1 : Value) (z0 : Nat) (z1 : Nat) : go gd_P0 d 171 41 [.ref v0, w1] [.ref z0, .ref z1] h =
    if gT h z1 = 6 then go gd_P0 d 171 49 [.ref v0, w1] [.ref (gS h), .ref v0] (nw (wR h (up1 (gR h) z1 4 z0)) 31 (Int32.toNatClampNeg 12) (Int32.toNatClampNeg 12)) else none :=
  (x171_41 ..).trans ((gs_if ..).trans (ic9 ((x171_44 ..).trans ((x171_45 ..).trans ((x171_47 ..)))) rfl))
theorem s171_49 (d : Nat) (h : gd_H) (v0 : Nat) (w1 : Value) (z0 : Nat) (z1 : Nat) : go gd_P0 d 171 49 [.ref v0, w1] [.ref z0, .ref z1] h =
    if gT h z1 = 6 then go gd_P0 d 171 54 [.ref v0, .int 0] [] (wR h (up1 (gR h) z1 5 z0)) else none :=
  (x171_49 ..).trans ((gs_if ..).trans (ic9 ((x171_52 ..).trans ((x171_53 ..))) rfl))
theorem s171_54 (d : Nat) (h : gd_H) (v0 : Nat) (v1 : Int32) : go gd_P0 d 171 54 [.ref v0, .int v1] [] h =
    if 12 ≤ v1 then some (.inl none, h) else if gT h v0 = 6 then if gT h (gR h v0 5) = 31 ∧ ¬ (v1 < 0 ∨ gL h (gR h v0 5) ≤ Int32.toNatClampNeg v1) then go gd_P0 d 171 54 [.ref v0, .int (v1 + 1)] [] (wI h (up1 (gI h) (gR h v0 5) (Int32.toNatClampNeg v1) 3)) else none else none :=
  (x171_54 ..).trans ((x171_55 ..).trans ((x171_57 ..).trans ((gs_if ..).trans (ic9 ((x171_73 ..)) ((x171_60 ..).trans ((x171_61 ..).trans ((gs_if ..).trans (ic9 ((x171_64 ..).trans ((x171_65 ..).trans ((x171_66 ..).trans ((gs_if ..).trans (ic9 ((x171_67 ..).trans ((x171_70 ..))) rfl))))) rfl))))))))
theorem r171 (d : Nat) (h : gd_H) (v0 : Nat) : run gd_P0 (d + 1) 171 [.ref v0] h = go gd_P0 d 171 0 [.ref v0, .null] [] h := run_succ gd_P0 d 171 [.ref v0] h (Nat.le_of_ble_eq_true rfl)
theorem x172_0 (d : Nat) (L st : List Value) (h : gd_H) : go gd_P0 d 172 0 L st h = gs gd_P0 d 172 0 L (i_ald 0 1 L st h) := go_eq gd_P0 d 172 0 L st h
theorem x172_1 (d : Nat) (L st : List Value) (h : gd_H) : go gd_P0 d 172 1 L st h = gs gd_P0 d 172 1 L (i_oin 4 L st h) := go_eq gd_P0 d 172 1 L st h
theorem x172_4 (d : Nat) (L st : List Value) (h : gd_H) : go gd_P0 d 172 4 L st h = gs gd_P0 d 172 4 L (i_msk [true] (i_ald 0 5) L st h) := go_eq gd_P0 d 172 4 L st h
theorem x172_5 (d : Nat) (L st : List Value) (h : gd_H) : go gd_P0 d 172 5 L st h = gs gd_P0 d 172 5 L (i_psh (.int 7) 7 L st h) := go_eq gd_P0 d 172 5 L st h
theorem x172_7 (d : Nat) (L st : List Value) (h : gd_H) : go gd_P0 d 172 7 L st h = gs gd_P0 d 172 7 L (i_newa 31 9 L st h) := go_eq gd_P0 d 172 7 L st h
theorem x172_9 (d : Nat) (L st : List Value) (h : gd_H) : go gd_P0 d 172 9 L st h = gs gd_P0 d 172 9 L (i_putR 7 0 12 L st h) := go_eq gd_P0 d 172 9 L st h
theorem x172_12 (d : Nat) (L st : List Value) (h : gd_H) : go gd_P0 d 172 12 L st h = gs gd_P0 d 172 12 L (i_ald 0 13 L st h) := go_eq gd_P0 d 172 12 L st h
theorem x172_13 (d : Nat) (L st : List Value) (h : gd_H) : go gd_P0 d 172 13 L st h = gs gd_P0 d 172 13 L (i_psh (.int 7) 15 L st h) := go_eq gd_P0 d 172 13 L st h
theorem x172_15 (d : Nat) (L st : List Value) (h : gd_H) : go gd_P0 d 172 15 L st h = gs gd_P0 d 172 15 L (i_newa 31 17 L st h) := go_eq gd_P0 d 172 15 L st h
theorem x172_17 (d : Nat) (L st : List Value) (h : gd_H) : go gd_P0 d 172 17 L st h = gs gd_P0 d 172 17 L (i_putR 7 1 20 L st h) := go_eq gd_P0 d 172 17 L st h
theorem x172_20 (d : Nat) (L st : List Value) (h : gd_H) : go gd_P0 d 172 20 L st h = gs gd_P0 d 172 20 L (i_ret L st h) := go_eq gd_P0 d 172 20 L st h
theorem s172_0 (d : Nat) (h : gd_H) (v0 : Nat) : go gd_P0 d 172 0 [.ref v0] [] h =
    if 4 ≤ v0 then go gd_P0 d 172 4 [.ref v0] [] h else none :=
  (x172_0 ..).trans ((x172_1 ..).trans ((gs_if ..).trans ((ia9 (by simp)).trans (ic9 (rfl) rfl))))
theorem s172_4 (d : Nat) (h : gd_H) (v0 : Nat) : go gd_P0 d 172 4 [.ref v0] [] h =
    if gT (nw h 31 (Int32.toNatClampNeg 7) (Int32.toNatClampNeg 7)) v0 = 7 then if gT (nw (wR (nw h 31 (Int32.toNatClampNeg 7) (Int32.toNatClampNeg 7)) (up1 (gR (nw h 31 (Int32.toNatClampNeg 7) (Int32.toNatClampNeg 7))) v0 0 (gS h))) 31 (Int32.toNatClampNeg 7) (Int32.toNatClampNeg 7)) v0 = 7 then some (.inl none, (wR (nw (wR (nw h 31 (Int32.toNatClampNeg 7) (Int32.toNatClampNeg 7)) (up1 (gR (nw h 31 (Int32.toNatClampNeg 7) (Int32.toNatClampNeg 7))) v0 0 (gS h))) 31 (Int32.toNatClampNeg 7) (Int32.toNatClampNeg 7)) (up1 (gR (nw (wR (nw h 31 (Int32.toNatClampNeg 7) (Int32.toNatClampNeg 7)) (up1 (gR (nw h 31 (Int32.toNatClampNeg 7) (Int32.toNatClampNeg 7))) v0 0 (gS h))) 31 (Int32.toNatClampNeg 7) (Int32.toNatClampNeg 7))) v0 1 (gS (nw h 31 (Int32.toNatClampNeg 7) (Int32.toNatClampNeg 7)))))) else none else none :=
  (x172_4 ..).trans ((x172_5 ..).trans ((x172_7 ..).trans ((x172_9 ..).trans ((gs_if ..).trans (ic9 ((x172_12 ..).trans ((x172_13 ..).trans ((x172_15 ..).trans ((x172_17 ..).trans ((gs_if ..).trans (ic9 ((x172_20 ..)) rfl)))))) rfl)))))
theorem r172 (d : Nat) (h : gd_H) (v0 : Nat) : run gd_P0 (d + 1) 172 [.ref v0] h = go gd_P0 d 172 0 [.ref v0] [] h := run_succ gd_P0 d 172 [.ref v0] h (Nat.le_of_ble_eq_true rfl)
theorem x173_0 (d : Nat) (L st : List Value) (h : gd_H) : go gd_P0 d 173 0 L st h = gs gd_P0 d 173 0 L (i_ald 0 1 L st h) := go_eq gd_P0 d 173 0 L st h
theorem x173_1 (d : Nat) (L st : List Value) (h : gd_H) : go gd_P0 d 173 1 L st h = gs gd_P0 d 173 1 L (i_ald 1 2 L st h) := go_eq gd_P0 d 173 1 L st h
theorem x173_2 (d : Nat) (L st : List Value) (h : gd_H) : go gd_P0 d 173 2 L st h = gs gd_P0 d 173 2 L (i_putR 7 2 5 L st h) := go_eq gd_P0 d 173 2 L st h
theorem x173_5 (d : Nat) (L st : List Value) (h : gd_H) : go gd_P0 d 173 5 L st h = gs gd_P0 d 173 5 L (i_ald 0 6 L st h) := go_eq gd_P0 d 173 5 L st h
theorem x173_6 (d : Nat) (L st : List Value) (h : gd_H) : go gd_P0 d 173 6 L st h = gs gd_P0 d 173 6 L (i_psh (.int (-1)) 7 L st h) := go_eq gd_P0 d 173 6 L st h
theorem x173_7 (d : Nat) (L st : List Value) (h : gd_H) : go gd_P0 d 173 7 L st h = gs gd_P0 d 173 7 L (i_putI 7 3 10 L st h) := go_eq gd_P0 d 173 7 L st h
theorem x173_10 (d : Nat) (L st : List Value) (h : gd_H) : go gd_P0 d 173 10 L st h = gs gd_P0 d 173 10 L (i_psh (.int 0) 11 L st h) := go_eq gd_P0 d 173 10 L st h
theorem x173_11 (d : Nat) (L st : List Value) (h : gd_H) : go gd_P0 d 173 11 L st h = gs gd_P0 d 173 11 L (i_ist 2 12 L st h) := go_eq gd_P0 d 173 11 L st h
theorem x173_12 (d : Nat) (L st : List Value) (h : gd_H) : go gd_P0 d 173 12 L st h = gs gd_P0 d 173 12 L (i_msk [true, true, true] (i_ild 2 13) L st h) := go_eq gd_P0 d 173 12 L st h
theorem x173_13 (d : Nat) (L st : List Value) (h : gd_H) : go gd_P0 d 173 13 L st h = gs gd_P0 d 173 13 L (i_psh (.int 7) 15 L st h) := go_eq gd_P0 d 173 13 L st h
theorem x173_15 (d : Nat) (L st : List Value) (h : gd_H) : go gd_P0 d 173 15 L st h = gs gd_P0 d 173 15 L (i_icge 38 18 L st h) := go_eq gd_P0 d 173 15 L st h
theorem x173_18 (d : Nat) (L st : List Value) (h : gd_H) : go gd_P0 d 173 18 L st h = gs gd_P0 d 173 18 L (i_ald 0 19 L st h) := go_eq gd_P0 d 173 18 L st h
theorem x173_19 (d : Nat) (L st : List Value) (h : gd_H) : go gd_P0 d 173 19 L st h = gs gd_P0 d 173 19 L (i_getR 7 0 22 L st h) := go_eq gd_P0 d 173 19 L st h
theorem x173_22 (d : Nat) (L st : List Value) (h : gd_H) : go gd_P0 d 173 22 L st h = gs gd_P0 d 173 22 L (i_ild 2 23 L st h) := go_eq gd_P0 d 173 22 L st h
theorem x173_23 (d : Nat) (L st : List Value) (h : gd_H) : go gd_P0 d 173 23 L st h = gs gd_P0 d 173 23 L (i_psh (.int (-1)) 24 L st h) := go_eq gd_P0 d 173 23 L st h
theorem x173_24 (d : Nat) (L st : List Value) (h : gd_H) : go gd_P0 d 173 24 L st h = gs gd_P0 d 173 24 L (i_astI 25 L st h) := go_eq gd_P0 d 173 24 L st h
theorem x173_25 (d : Nat) (L st : List Value) (h : gd_H) : go gd_P0 d 173 25 L st h = gs gd_P0 d 173 25 L (i_ald 0 26 L st h) := go_eq gd_P0 d 173 25 L st h
theorem x173_26 (d : Nat) (L st : List Value) (h : gd_H) : go gd_P0 d 173 26 L st h = gs gd_P0 d 173 26 L (i_getR 7 1 29 L st h) := go_eq gd_P0 d 173 26 L st h
theorem x173_29 (d : Nat) (L st : List Value) (h : gd_H) : go gd_P0 d 173 29 L st h = gs gd_P0 d 173 29 L (i_ild 2 30 L st h) := go_eq gd_P0 d 173 29 L st h
theorem x173_30 (d : Nat) (L st : List Value) (h : gd_H) : go gd_P0 d 173 30 L st h = gs gd_P0 d 173 30 L (i_psh (.int (-1)) 31 L st h) := go_eq gd_P0 d 173 30 L st h
theorem x173_31 (d : Nat) (L st : List Value) (h : gd_H) : go gd_P0 d 173 31 L st h = gs gd_P0 d 173 31 L (i_astI 32 L st h) := go_eq gd_P0 d 173 31 L st h
theorem x173_32 (d : Nat) (L st : List Value) (h : gd_H) : go gd_P0 d 173 32 L st h = gs gd_P0 d 173 32 L (i_inc 2 1 35 L st h) := go_eq gd_P0 d 173 32 L st h
theorem x173_35 (d : Nat) (L st : List Value) (h : gd_H) : go gd_P0 d 173 35 L st h = gs gd_P0 d 173 35 L (i_goto 12 L st h) := go_eq gd_P0 d 173 35 L st h
theorem x173_38 (d : Nat) (L st : List Value) (h : gd_H) : go gd_P0 d 173 38 L st h = gs gd_P0 d 173 38 L (i_ald 0 39 L st h) := go_eq gd_P0 d 173 38 L st h
theorem x173_39 (d : Nat) (L st : List Value) (h : gd_H) : go gd_P0 d 173 39 L st h = gs gd_P0 d 173 39 L (i_ald 1 40 L st h) := go_eq gd_P0 d 173 39 L st h
theorem x173_40 (d : Nat) (L st : List Value) (h : gd_H) : go gd_P0 d 173 40 L st h = gs gd_P0 d 173 40 L (i_cV 149 0 4 43 L st h) := go_eq gd_P0 d 173 40 L st h
theorem x173_43 (d : Nat) (L st : List Value) (h : gd_H) : go gd_P0 d 173 43 L st h = gs gd_P0 d 173 43 L (i_msk [false, true, false] (i_ald 1 44) L st h) := go_eq gd_P0 d 173 43 L st h
theorem x173_44 (d : Nat) (L st : List Value) (h : gd_H) : go gd_P0 d 173 44 L st h = gs gd_P0 d 173 44 L (i_cV 149 0 4 47 L st h) := go_eq gd_P0 d 173 44 L st h
theorem x173_47 (d : Nat) (L st : List Value) (h : gd_H) : go gd_P0 d 173 47 L st h = gs gd_P0 d 173 47 L (i_msk [false, false, false] (i_cS 2 1 50) L st h) := go_eq gd_P0 d 173 47 L st h
theorem x173_50 (d : Nat) (L st : List Value) (h : gd_H) : go gd_P0 d 173 50 L st h = gs gd_P0 d 173 50 L (i_msk [false, false, false] (i_psh (.int 2) 51) L st h) := go_eq gd_P0 d 173 50 L st h
theorem x173_51 (d : Nat) (L st : List Value) (h : gd_H) : go gd_P0 d 173 51 L st h = gs gd_P0 d 173 51 L (i_irem 52 L st h) := go_eq gd_P0 d 173 51 L st h
theorem x173_52 (d : Nat) (L st : List Value) (h : gd_H) : go gd_P0 d 173 52 L st h = gs gd_P0 d 173 52 L (i_psh (.int 1) 53 L st h) := go_eq gd_P0 d 173 52 L st h
theorem x173_53 (d : Nat) (L st : List Value) (h : gd_H) : go gd_P0 d 173 53 L st h = gs gd_P0 d 173 53 L (i_icne 60 56 L st h) := go_eq gd_P0 d 173 53 L st h
theorem x173_56 (d : Nat) (L st : List Value) (h : gd_H) : go gd_P0 d 173 56 L st h = gs gd_P0 d 173 56 L (i_psh (.int 1) 57 L st h) := go_eq gd_P0 d 173 56 L st h
theorem x173_57 (d : Nat) (L st : List Value) (h : gd_H) : go gd_P0 d 173 57 L st h = gs gd_P0 d 173 57 L (i_goto 61 L st h) := go_eq gd_P0 d 173 57 L st h
theorem x173_60 (d : Nat) (L st : List Value) (h : gd_H) : go gd_P0 d 173 60 L st h = gs gd_P0 d 173 60 L (i_psh (.int 0) 61 L st h) := go_eq gd_P0 d 173 60 L st h
theorem x173_61 (d : Nat) (L st : List Value) (h : gd_H) : go gd_P0 d 173 61 L st h = gs gd_P0 d 173 61 L (i_msk [false, false, false] (i_psh (.int 0) 62) L st h) := go_eq gd_P0 d 173 61 L st h
theorem x173_62 (d : Nat) (L st : List Value) (h : gd_H) : go gd_P0 d 173 62 L st h = gs gd_P0 d 173 62 L (i_cV 174 3 7 65 L st h) := go_eq gd_P0 d 173 62 L st h
theorem x173_65 (d : Nat) (L st : List Value) (h : gd_H) : go gd_P0 d 173 65 L st h = gs gd_P0 d 173 65 L (i_msk [false, false, false] (i_ret) L st h) := go_eq gd_P0 d 173 65 L st h
theorem s173_0 (d : Nat) (h : gd_H) (v0 : Nat) (v1 : Nat) : go gd_P0 d 173 0 [.ref v0, .ref v1, .null] [] h =
    if gT h v0 = 7 then if gT h v0 = 7 then go gd_P0 d 173 12 [.ref v0, .ref v1, .int 0] [] (wR (wI h (up1 (gI h) v0 3 (-1))) (up1 (gR h) v0 2 v1)) else none else none :=
  (x173_0 ..).trans ((x173_1 ..).trans ((x173_2 ..).trans ((gs_if ..).trans (ic9 ((x173_5 ..).trans ((x173_6 ..).trans ((x173_7 ..).trans ((gs_if ..).trans (ic9 ((x173_10 ..).trans ((x173_11 ..))) rfl))))) rfl))))
theorem s173_12 (d : Nat) (h : gd_H) (v0 : Nat) (v1 : Nat) (v2 : Int32) : go gd_P0 d 173 12 [.ref v0, .ref v1, .int v2] [] h =
    if 7 ≤ v2 then if gT h v1 = 4 then gc gd_P0 d 173 40 43 [.ref v0, .ref v1, .int v2] [.ref v0] (run gd_P0 d 149 [.ref v1] h) else none else if gT h v0 = 7 then if gT h (gR h v0 0) = 31 ∧ ¬ (v2 < 0 ∨ gL h (gR h v0 0) ≤ Int32.toNatClampNeg v2) then if gT h v0 = 7 then if gT h (gR h v0 1) = 31 ∧ ¬ (v2 < 0 ∨ gL h (gR h v0 1) ≤ Int32.toNatClampNeg v2) then go gd_P0 d 173 12 [.ref v0, .ref v1, .int (v2 + 1)] [] (wI h (up1 (up1 (gI h) (gR h v0 0) (Int32.toNatClampNeg v2) (-1)) (gR h v0 1) (Int32.toNatClampNeg v2) (-1))) else none else none else none else none :=
  (x173_12 ..).trans ((x173_13 ..).trans ((x173_15 ..).trans ((gs_if ..).trans (ic9 ((x173_38 ..).trans ((x173_39 ..).trans ((x173_40 ..).trans ((gs_if ..).trans ((ia9 (by simp)).trans (ic9 rfl rfl)))))) ((x173_18 ..).trans ((x173_19 ..).trans ((gs_if ..).trans (ic9 ((x173_22 ..).trans ((x173_23 ..).trans ((x173_24 ..).trans ((gs_if ..).trans (ic9 ((x173_25 ..).trans ((x173_26 ..).trans ((gs_if ..).trans (ic9 ((x173_29 ..).trans ((x173_30 ..).trans ((x173_31 ..).trans ((gs_if ..).trans (ic9 ((x173_32 ..).trans ((x173_35 ..))) rfl))))) rfl)))) rfl))))) rfl))))))))
theorem s173_43 (d : Nat) (h : gd_H) (w0 : Value) (v1 : Nat) (w2 : Value) (z0 : Int32) (z1 : Nat) : go gd_P0 d 173 43 [w0, .ref v1, w2] [.int z0, .ref z1] h =
    if gT h v1 = 4 then gc gd_P0 d 173 44 47 [.null, .ref v1, .null] [.int z0, .ref z1] (run gd_P0 d 149 [.ref v1] h) else none :=
  (x173_43 ..).trans ((x173_44 ..).trans ((gs_if ..).trans ((ia9 (by simp)).trans (ic9 rfl rfl))))
theorem s173_47 (d : Nat) (h : gd_H) (w0 : Value) (w1 : Value) (w2 : Value) (z0 : Int32) (z1 : Int32) (z2 : Nat) : go gd_P0 d 173 47 [w0, w1, w2] [.int z0, .int z1, .ref z2] h =
    gc gd_P0 d 173 47 50 [.null, .null, .null] [.int z1, .ref z2] (run gd_P0 d 2 [.int z0] h) :=
  (x173_47 ..)
theorem s173_50 (d : Nat) (h : gd_H) (w0 : Value) (w1 : Value) (w2 : Value) (z0 : Int32) (z1 : Int32) (z2 : Nat) : go gd_P0 d 173 50 [w0, w1, w2] [.int z0, .int z1, .ref z2] h =
    if (z0 - z0 / 2 * 2) = 1 then go gd_P0 d 173 61 [.null, .null, .null] [.int 1, .int z1, .ref z2] h else go gd_P0 d 173 61 [.null, .null, .null] [.int 0, .int z1, .ref z2] h :=
  (x173_50 ..).trans ((x173_51 ..).trans ((gs_rem (y := (2 : Int32)) (by decide)).trans ((x173_52 ..).trans ((x173_53 ..).trans ((gs_if ..).trans (ic9 ((x173_56 ..).trans ((x173_57 ..))) ((x173_60 ..))))))))
theorem s173_61 (d : Nat) (h : gd_H) (w0 : Value) (w1 : Value) (w2 : Value) (z0 : Int32) (z1 : Int32) (z2 : Nat) : go gd_P0 d 173 61 [w0, w1, w2] [.int z0, .int z1, .ref z2] h =
    if gT h z2 = 7 then gc gd_P0 d 173 62 65 [.null, .null, .null] [] (run gd_P0 d 174 [.ref z2, .int z1, .int z0, .int 0] h) else none :=
  (x173_61 ..).trans ((x173_62 ..).trans ((gs_if ..).trans ((ia9 (by simp)).trans (ic9 rfl rfl))))
theorem s173_65 (d : Nat) (h : gd_H) (w0 : Value) (w1 : Value) (w2 : Value) : go gd_P0 d 173 65 [w0, w1, w2] [] h =
    some (.inl none, h) :=
  (x173_65 ..)
theorem r173 (d : Nat) (h : gd_H) (v0 : Nat) (v1 : Nat) : run gd_P0 (d + 1) 173 [.ref v0, .ref v1] h = go gd_P0 d 173 0 [.ref v0, .ref v1, .null] [] h := run_succ gd_P0 d 173 [.ref v0, .ref v1] h (Nat.le_of_ble_eq_true rfl)
theorem x174_0 (d : Nat) (L st : List Value) (h : gd_H) : go gd_P0 d 174 0 L st h = gs gd_P0 d 174 0 L (i_ald 0 1 L st h) := go_eq gd_P0 d 174 0 L st h
theorem x174_1 (d : Nat) (L st : List Value) (h : gd_H) : go gd_P0 d 174 1 L st h = gs gd_P0 d 174 1 L (i_getI 7 3 4 L st h) := go_eq gd_P0 d 174 1 L st h
theorem x174_4 (d : Nat) (L st : List Value) (h : gd_H) : go gd_P0 d 174 4 L st h = gs gd_P0 d 174 4 L (i_psh (.int (-1)) 5 L st h) := go_eq gd_P0 d 174 4 L st h
theorem x174_5 (d : Nat) (L st : List Value) (h : gd_H) : go gd_P0 d 174 5 L st h = gs gd_P0 d 174 5 L (i_iceq 17 8 L st h) := go_eq gd_P0 d 174 5 L st h
theorem x174_8 (d : Nat) (L st : List Value) (h : gd_H) : go gd_P0 d 174 8 L st h = gs gd_P0 d 174 8 L (i_ild 3 9 L st h) := go_eq gd_P0 d 174 8 L st h
theorem x174_9 (d : Nat) (L st : List Value) (h : gd_H) : go gd_P0 d 174 9 L st h = gs gd_P0 d 174 9 L (i_ald 0 10 L st h) := go_eq gd_P0 d 174 9 L st h
theorem x174_10 (d : Nat) (L st : List Value) (h : gd_H) : go gd_P0 d 174 10 L st h = gs gd_P0 d 174 10 L (i_getI 7 3 13 L st h) := go_eq gd_P0 d 174 10 L st h
theorem x174_13 (d : Nat) (L st : List Value) (h : gd_H) : go gd_P0 d 174 13 L st h = gs gd_P0 d 174 13 L (i_iclt 17 16 L st h) := go_eq gd_P0 d 174 13 L st h
theorem x174_16 (d : Nat) (L st : List Value) (h : gd_H) : go gd_P0 d 174 16 L st h = gs gd_P0 d 174 16 L (i_ret L st h) := go_eq gd_P0 d 174 16 L st h
theorem x174_17 (d : Nat) (L st : List Value) (h : gd_H) : go gd_P0 d 174 17 L st h = gs gd_P0 d 174 17 L (i_msk [true, true, true, true, false, false, false] (i_ild 1 18) L st h) := go_eq gd_P0 d 174 17 L st h
theorem x174_18 (d : Nat) (L st : List Value) (h : gd_H) : go gd_P0 d 174 18 L st h = gs gd_P0 d 174 18 L (i_ifne 42 21 L st h) := go_eq gd_P0 d 174 18 L st h
theorem x174_21 (d : Nat) (L st : List Value) (h : gd_H) : go gd_P0 d 174 21 L st h = gs gd_P0 d 174 21 L (i_ald 0 22 L st h) := go_eq gd_P0 d 174 21 L st h
theorem x174_22 (d : Nat) (L st : List Value) (h : gd_H) : go gd_P0 d 174 22 L st h = gs gd_P0 d 174 22 L (i_ild 3 23 L st h) := go_eq gd_P0 d 174 22 L st h
theorem x174_23 (d : Nat) (L st : List Value) (h : gd_H) : go gd_P0 d 174 23 L st h = gs gd_P0 d 174 23 L (i_putI 7 3 26 L st h) := go_eq gd_P0 d 174 23 L st h
theorem x174_26 (d : Nat) (L st : List Value) (h : gd_H) : go gd_P0 d 174 26 L st h = gs gd_P0 d 174 26 L (i_ald 0 27 L st h) := go_eq gd_P0 d 174 26 L st h
theorem x174_27 (d : Nat) (L st : List Value) (h : gd_H) : go gd_P0 d 174 27 L st h = gs gd_P0 d 174 27 L (i_getR 7 0 30 L st h) := go_eq gd_P0 d 174 27 L st h
theorem x174_30 (d : Nat) (L st : List Value) (h : gd_H) : go gd_P0 d 174 30 L st h = gs gd_P0 d 174 30 L (i_psh (.int 0) 31 L st h) := go_eq gd_P0 d 174 30 L st h
theorem x174_31 (d : Nat) (L st : List Value) (h : gd_H) : go gd_P0 d 174 31 L st h = gs gd_P0 d 174 31 L (i_ald 0 32 L st h) := go_eq gd_P0 d 174 31 L st h
theorem x174_32 (d : Nat) (L st : List Value) (h : gd_H) : go gd_P0 d 174 32 L st h = gs gd_P0 d 174 32 L (i_getR 7 1 35 L st h) := go_eq gd_P0 d 174 32 L st h
theorem x174_35 (d : Nat) (L st : List Value) (h : gd_H) : go gd_P0 d 174 35 L st h = gs gd_P0 d 174 35 L (i_psh (.int 0) 36 L st h) := go_eq gd_P0 d 174 35 L st h
theorem x174_36 (d : Nat) (L st : List Value) (h : gd_H) : go gd_P0 d 174 36 L st h = gs gd_P0 d 174 36 L (i_psh (.int 7) 38 L st h) := go_eq gd_P0 d 174 36 L st h
theorem x174_38 (d : Nat) (L st : List Value) (h : gd_H) : go gd_P0 d 174 38 L st h = gs gd_P0 d 174 38 L (i_acp 41 L st h) := go_eq gd_P0 d 174 38 L st h
theorem x174_41 (d : Nat) (L st : List Value) (h : gd_H) : go gd_P0 d 174 41 L st h = gs gd_P0 d 174 41 L (i_msk [false, false, false, false, false, false, false] (i_ret) L st h) := go_eq gd_P0 d 174 41 L st h
theorem x174_42 (d : Nat) (L st : List Value) (h : gd_H) : go gd_P0 d 174 42 L st h = gs gd_P0 d 174 42 L (i_ild 1 43 L st h) := go_eq gd_P0 d 174 42 L st h
theorem x174_43 (d : Nat) (L st : List Value) (h : gd_H) : go gd_P0 d 174 43 L st h = gs gd_P0 d 174 43 L (i_cS 3 1 46 L st h) := go_eq gd_P0 d 174 43 L st h
theorem x174_46 (d : Nat) (L st : List Value) (h : gd_H) : go gd_P0 d 174 46 L st h = gs gd_P0 d 174 46 L (i_msk [true, true, true, true, false, false, false] (i_ist 4 48) L st h) := go_eq gd_P0 d 174 46 L st h
theorem x174_48 (d : Nat) (L st : List Value) (h : gd_H) : go gd_P0 d 174 48 L st h = gs gd_P0 d 174 48 L (i_ild 1 49 L st h) := go_eq gd_P0 d 174 48 L st h
theorem x174_49 (d : Nat) (L st : List Value) (h : gd_H) : go gd_P0 d 174 49 L st h = gs gd_P0 d 174 49 L (i_psh (.int 1) 50 L st h) := go_eq gd_P0 d 174 49 L st h
theorem x174_50 (d : Nat) (L st : List Value) (h : gd_H) : go gd_P0 d 174 50 L st h = gs gd_P0 d 174 50 L (i_ild 4 52 L st h) := go_eq gd_P0 d 174 50 L st h
theorem x174_52 (d : Nat) (L st : List Value) (h : gd_H) : go gd_P0 d 174 52 L st h = gs gd_P0 d 174 52 L (i_ishl 53 L st h) := go_eq gd_P0 d 174 52 L st h
theorem x174_53 (d : Nat) (L st : List Value) (h : gd_H) : go gd_P0 d 174 53 L st h = gs gd_P0 d 174 53 L (i_psh (.int (-1)) 54 L st h) := go_eq gd_P0 d 174 53 L st h
theorem x174_54 (d : Nat) (L st : List Value) (h : gd_H) : go gd_P0 d 174 54 L st h = gs gd_P0 d 174 54 L (i_ixor 55 L st h) := go_eq gd_P0 d 174 54 L st h
theorem x174_55 (d : Nat) (L st : List Value) (h : gd_H) : go gd_P0 d 174 55 L st h = gs gd_P0 d 174 55 L (i_iand 56 L st h) := go_eq gd_P0 d 174 55 L st h
theorem x174_56 (d : Nat) (L st : List Value) (h : gd_H) : go gd_P0 d 174 56 L st h = gs gd_P0 d 174 56 L (i_ist 5 58 L st h) := go_eq gd_P0 d 174 56 L st h
theorem x174_58 (d : Nat) (L st : List Value) (h : gd_H) : go gd_P0 d 174 58 L st h = gs gd_P0 d 174 58 L (i_ild 4 60 L st h) := go_eq gd_P0 d 174 58 L st h
theorem x174_60 (d : Nat) (L st : List Value) (h : gd_H) : go gd_P0 d 174 60 L st h = gs gd_P0 d 174 60 L (i_psh (.int 1) 61 L st h) := go_eq gd_P0 d 174 60 L st h
theorem x174_61 (d : Nat) (L st : List Value) (h : gd_H) : go gd_P0 d 174 61 L st h = gs gd_P0 d 174 61 L (i_iadd 62 L st h) := go_eq gd_P0 d 174 61 L st h
theorem x174_62 (d : Nat) (L st : List Value) (h : gd_H) : go gd_P0 d 174 62 L st h = gs gd_P0 d 174 62 L (i_ist 6 64 L st h) := go_eq gd_P0 d 174 62 L st h
theorem x174_64 (d : Nat) (L st : List Value) (h : gd_H) : go gd_P0 d 174 64 L st h = gs gd_P0 d 174 64 L (i_msk [true, false, true, true, true, true, true] (i_ild 6 66) L st h) := go_eq gd_P0 d 174 64 L st h
theorem x174_66 (d : Nat) (L st : List Value) (h : gd_H) : go gd_P0 d 174 66 L st h = gs gd_P0 d 174 66 L (i_ald 0 67 L st h) := go_eq gd_P0 d 174 66 L st h
theorem x174_67 (d : Nat) (L st : List Value) (h : gd_H) : go gd_P0 d 174 67 L st h = gs gd_P0 d 174 67 L (i_getR 7 2 70 L st h) := go_eq gd_P0 d 174 67 L st h
theorem x174_70 (d : Nat) (L st : List Value) (h : gd_H) : go gd_P0 d 174 70 L st h = gs gd_P0 d 174 70 L (i_getR 4 9 73 L st h) := go_eq gd_P0 d 174 70 L st h
theorem x174_73 (d : Nat) (L st : List Value) (h : gd_H) : go gd_P0 d 174 73 L st h = gs gd_P0 d 174 73 L (i_getI 6 7 76 L st h) := go_eq gd_P0 d 174 73 L st h
theorem x174_76 (d : Nat) (L st : List Value) (h : gd_H) : go gd_P0 d 174 76 L st h = gs gd_P0 d 174 76 L (i_icge 156 79 L st h) := go_eq gd_P0 d 174 76 L st h
theorem x174_79 (d : Nat) (L st : List Value) (h : gd_H) : go gd_P0 d 174 79 L st h = gs gd_P0 d 174 79 L (i_ild 5 81 L st h) := go_eq gd_P0 d 174 79 L st h
theorem x174_81 (d : Nat) (L st : List Value) (h : gd_H) : go gd_P0 d 174 81 L st h = gs gd_P0 d 174 81 L (i_ild 6 83 L st h) := go_eq gd_P0 d 174 81 L st h
theorem x174_83 (d : Nat) (L st : List Value) (h : gd_H) : go gd_P0 d 174 83 L st h = gs gd_P0 d 174 83 L (i_ishr 84 L st h) := go_eq gd_P0 d 174 83 L st h
theorem x174_84 (d : Nat) (L st : List Value) (h : gd_H) : go gd_P0 d 174 84 L st h = gs gd_P0 d 174 84 L (i_psh (.int 1) 85 L st h) := go_eq gd_P0 d 174 84 L st h
theorem x174_85 (d : Nat) (L st : List Value) (h : gd_H) : go gd_P0 d 174 85 L st h = gs gd_P0 d 174 85 L (i_iand 86 L st h) := go_eq gd_P0 d 174 85 L st h
theorem x174_86 (d : Nat) (L st : List Value) (h : gd_H) : go gd_P0 d 174 86 L st h = gs gd_P0 d 174 86 L (i_ifne 92 89 L st h) := go_eq gd_P0 d 174 86 L st h
theorem x174_89 (d : Nat) (L st : List Value) (h : gd_H) : go gd_P0 d 174 89 L st h = gs gd_P0 d 174 89 L (i_goto 150 L st h) := go_eq gd_P0 d 174 89 L st h
theorem x174_92 (d : Nat) (L st : List Value) (h : gd_H) : go gd_P0 d 174 92 L st h = gs gd_P0 d 174 92 L (i_ald 0 93 L st h) := go_eq gd_P0 d 174 92 L st h
theorem x174_93 (d : Nat) (L st : List Value) (h : gd_H) : go gd_P0 d 174 93 L st h = gs gd_P0 d 174 93 L (i_getR 7 0 96 L st h) := go_eq gd_P0 d 174 93 L st h
theorem x174_96 (d : Nat) (L st : List Value) (h : gd_H) : go gd_P0 d 174 96 L st h = gs gd_P0 d 174 96 L (i_ild 4 98 L st h) := go_eq gd_P0 d 174 96 L st h
theorem x174_98 (d : Nat) (L st : List Value) (h : gd_H) : go gd_P0 d 174 98 L st h = gs gd_P0 d 174 98 L (i_ild 6 100 L st h) := go_eq gd_P0 d 174 98 L st h
theorem x174_100 (d : Nat) (L st : List Value) (h : gd_H) : go gd_P0 d 174 100 L st h = gs gd_P0 d 174 100 L (i_astI 101 L st h) := go_eq gd_P0 d 174 100 L st h
theorem x174_101 (d : Nat) (L st : List Value) (h : gd_H) : go gd_P0 d 174 101 L st h = gs gd_P0 d 174 101 L (i_ald 0 102 L st h) := go_eq gd_P0 d 174 101 L st h
theorem x174_102 (d : Nat) (L st : List Value) (h : gd_H) : go gd_P0 d 174 102 L st h = gs gd_P0 d 174 102 L (i_getR 7 0 105 L st h) := go_eq gd_P0 d 174 102 L st h
theorem x174_105 (d : Nat) (L st : List Value) (h : gd_H) : go gd_P0 d 174 105 L st h = gs gd_P0 d 174 105 L (i_ild 6 107 L st h) := go_eq gd_P0 d 174 105 L st h
theorem x174_107 (d : Nat) (L st : List Value) (h : gd_H) : go gd_P0 d 174 107 L st h = gs gd_P0 d 174 107 L (i_ild 4 109 L st h) := go_eq gd_P0 d 174 107 L st h
theorem x174_109 (d : Nat) (L st : List Value) (h : gd_H) : go gd_P0 d 174 109 L st h = gs gd_P0 d 174 109 L (i_astI 110 L st h) := go_eq gd_P0 d 174 109 L st h
theorem x174_110 (d : Nat) (L st : List Value) (h : gd_H) : go gd_P0 d 174 110 L st h = gs gd_P0 d 174 110 L (i_ald 0 111 L st h) := go_eq gd_P0 d 174 110 L st h
theorem x174_111 (d : Nat) (L st : List Value) (h : gd_H) : go gd_P0 d 174 111 L st h = gs gd_P0 d 174 111 L (i_ild 5 113 L st h) := go_eq gd_P0 d 174 111 L st h
theorem x174_113 (d : Nat) (L st : List Value) (h : gd_H) : go gd_P0 d 174 113 L st h = gs gd_P0 d 174 113 L (i_psh (.int 1) 114 L st h) := go_eq gd_P0 d 174 113 L st h
theorem x174_114 (d : Nat) (L st : List Value) (h : gd_H) : go gd_P0 d 174 114 L st h = gs gd_P0 d 174 114 L (i_ild 6 116 L st h) := go_eq gd_P0 d 174 114 L st h
theorem x174_116 (d : Nat) (L st : List Value) (h : gd_H) : go gd_P0 d 174 116 L st h = gs gd_P0 d 174 116 L (i_ishl 117 L st h) := go_eq gd_P0 d 174 116 L st h
theorem x174_117 (d : Nat) (L st : List Value) (h : gd_H) : go gd_P0 d 174 117 L st h = gs gd_P0 d 174 117 L (i_psh (.int (-1)) 118 L st h) := go_eq gd_P0 d 174 117 L st h
theorem x174_118 (d : Nat) (L st : List Value) (h : gd_H) : go gd_P0 d 174 118 L st h = gs gd_P0 d 174 118 L (i_ixor 119 L st h) := go_eq gd_P0 d 174 118 L st h
theorem x174_119 (d : Nat) (L st : List Value) (h : gd_H) : go gd_P0 d 174 119 L st h = gs gd_P0 d 174 119 L (i_iand 120 L st h) := go_eq gd_P0 d 174 119 L st h
theorem x174_120 (d : Nat) (L st : List Value) (h : gd_H) : go gd_P0 d 174 120 L st h = gs gd_P0 d 174 120 L (i_ild 2 121 L st h) := go_eq gd_P0 d 174 120 L st h
theorem x174_121 (d : Nat) (L st : List Value) (h : gd_H) : go gd_P0 d 174 121 L st h = gs gd_P0 d 174 121 L (i_ild 3 122 L st h) := go_eq gd_P0 d 174 121 L st h
theorem x174_122 (d : Nat) (L st : List Value) (h : gd_H) : go gd_P0 d 174 122 L st h = gs gd_P0 d 174 122 L (i_ald 0 123 L st h) := go_eq gd_P0 d 174 122 L st h
theorem x174_123 (d : Nat) (L st : List Value) (h : gd_H) : go gd_P0 d 174 123 L st h = gs gd_P0 d 174 123 L (i_getR 7 2 126 L st h) := go_eq gd_P0 d 174 123 L st h
theorem x174_126 (d : Nat) (L st : List Value) (h : gd_H) : go gd_P0 d 174 126 L st h = gs gd_P0 d 174 126 L (i_getR 4 1 129 L st h) := go_eq gd_P0 d 174 126 L st h
theorem x174_129 (d : Nat) (L st : List Value) (h : gd_H) : go gd_P0 d 174 129 L st h = gs gd_P0 d 174 129 L (i_ild 4 131 L st h) := go_eq gd_P0 d 174 129 L st h
theorem x174_131 (d : Nat) (L st : List Value) (h : gd_H) : go gd_P0 d 174 131 L st h = gs gd_P0 d 174 131 L (i_aldI 31 132 L st h) := go_eq gd_P0 d 174 131 L st h
theorem x174_132 (d : Nat) (L st : List Value) (h : gd_H) : go gd_P0 d 174 132 L st h = gs gd_P0 d 174 132 L (i_ald 0 133 L st h) := go_eq gd_P0 d 174 132 L st h
theorem x174_133 (d : Nat) (L st : List Value) (h : gd_H) : go gd_P0 d 174 133 L st h = gs gd_P0 d 174 133 L (i_getR 7 2 136 L st h) := go_eq gd_P0 d 174 133 L st h
theorem x174_136 (d : Nat) (L st : List Value) (h : gd_H) : go gd_P0 d 174 136 L st h = gs gd_P0 d 174 136 L (i_getR 4 1 139 L st h) := go_eq gd_P0 d 174 136 L st h
theorem x174_139 (d : Nat) (L st : List Value) (h : gd_H) : go gd_P0 d 174 139 L st h = gs gd_P0 d 174 139 L (i_ild 6 141 L st h) := go_eq gd_P0 d 174 139 L st h
theorem x174_141 (d : Nat) (L st : List Value) (h : gd_H) : go gd_P0 d 174 141 L st h = gs gd_P0 d 174 141 L (i_aldI 31 142 L st h) := go_eq gd_P0 d 174 141 L st h
theorem x174_142 (d : Nat) (L st : List Value) (h : gd_H) : go gd_P0 d 174 142 L st h = gs gd_P0 d 174 142 L (i_isub 143 L st h) := go_eq gd_P0 d 174 142 L st h
theorem x174_143 (d : Nat) (L st : List Value) (h : gd_H) : go gd_P0 d 174 143 L st h = gs gd_P0 d 174 143 L (i_mabs 146 L st h) := go_eq gd_P0 d 174 143 L st h
theorem x174_146 (d : Nat) (L st : List Value) (h : gd_H) : go gd_P0 d 174 146 L st h = gs gd_P0 d 174 146 L (i_msk [true, false, true, true, true, true, true] (i_iadd 147) L st h) := go_eq gd_P0 d 174 146 L st h
theorem x174_147 (d : Nat) (L st : List Value) (h : gd_H) : go gd_P0 d 174 147 L st h = gs gd_P0 d 174 147 L (i_cV 174 3 7 150 L st h) := go_eq gd_P0 d 174 147 L st h
theorem x174_150 (d : Nat) (L st : List Value) (h : gd_H) : go gd_P0 d 174 150 L st h = gs gd_P0 d 174 150 L (i_msk [true, false, true, true, true, true, true] (i_inc 6 1 153) L st h) := go_eq gd_P0 d 174 150 L st h
theorem x174_153 (d : Nat) (L st : List Value) (h : gd_H) : go gd_P0 d 174 153 L st h = gs gd_P0 d 174 153 L (i_goto 64 L st h) := go_eq gd_P0 d 174 153 L st h
theorem x174_156 (d : Nat) (L st : List Value) (h : gd_H) : go gd_P0 d 174 156 L st h = gs gd_P0 d 174 156 L (i_ald 0 157 L st h) := go_eq gd_P0 d 174 156 L st h
theorem x174_157 (d : Nat) (L st : List Value) (h : gd_H) : go gd_P0 d 174 157 L st h = gs gd_P0 d 174 157 L (i_getR 7 0 160 L st h) := go_eq gd_P0 d 174 157 L st h
theorem x174_160 (d : Nat) (L st : List Value) (h : gd_H) : go gd_P0 d 174 160 L st h = gs gd_P0 d 174 160 L (i_ild 4 162 L st h) := go_eq gd_P0 d 174 160 L st h
theorem x174_162 (d : Nat) (L st : List Value) (h : gd_H) : go gd_P0 d 174 162 L st h = gs gd_P0 d 174 162 L (i_psh (.int (-1)) 163 L st h) := go_eq gd_P0 d 174 162 L st h
theorem x174_163 (d : Nat) (L st : List Value) (h : gd_H) : go gd_P0 d 174 163 L st h = gs gd_P0 d 174 163 L (i_astI 164 L st h) := go_eq gd_P0 d 174 163 L st h
theorem x174_164 (d : Nat) (L st : List Value) (h : gd_H) : go gd_P0 d 174 164 L st h = gs gd_P0 d 174 164 L (i_ild 2 165 L st h) := go_eq gd_P0 d 174 164 L st h
theorem x174_165 (d : Nat) (L st : List Value) (h : gd_H) : go gd_P0 d 174 165 L st h = gs gd_P0 d 174 165 L (i_ifeq 176 168 L st h) := go_eq gd_P0 d 174 165 L st h
theorem x174_168 (d : Nat) (L st : List Value) (h : gd_H) : go gd_P0 d 174 168 L st h = gs gd_P0 d 174 168 L (i_ald 0 169 L st h) := go_eq gd_P0 d 174 168 L st h
theorem x174_169 (d : Nat) (L st : List Value) (h : gd_H) : go gd_P0 d 174 169 L st h = gs gd_P0 d 174 169 L (i_ild 5 171 L st h) := go_eq gd_P0 d 174 169 L st h
theorem x174_171 (d : Nat) (L st : List Value) (h : gd_H) : go gd_P0 d 174 171 L st h = gs gd_P0 d 174 171 L (i_psh (.int 0) 172 L st h) := go_eq gd_P0 d 174 171 L st h
theorem x174_172 (d : Nat) (L st : List Value) (h : gd_H) : go gd_P0 d 174 172 L st h = gs gd_P0 d 174 172 L (i_ild 3 173 L st h) := go_eq gd_P0 d 174 172 L st h
theorem x174_173 (d : Nat) (L st : List Value) (h : gd_H) : go gd_P0 d 174 173 L st h = gs gd_P0 d 174 173 L (i_cV 174 3 7 176 L st h) := go_eq gd_P0 d 174 173 L st h
theorem x174_176 (d : Nat) (L st : List Value) (h : gd_H) : go gd_P0 d 174 176 L st h = gs gd_P0 d 174 176 L (i_msk [false, false, false, false, false, false, false] (i_ret) L st h) := go_eq gd_P0 d 174 176 L st h
theorem s174_0 (d : Nat) (h : gd_H) (v0 : Nat) (v1 : Int32) (v2 : Int32) (v3 : Int32) : go gd_P0 d 174 0 [.ref v0, .int v1, .int v2, .int v3, .null, .null, .null] [] h =
    if gT h v0 = 7 then if (gI h v0 3) = (-1) then go gd_P0 d 174 17 [.ref v0, .int v1, .int v2, .int v3, .null, .null, .null] [] h else if gT h v0 = 7 then if v3 < (gI h v0 3) then go gd_P0 d 174 17 [.ref v0, .int v1, .int v2, .int v3, .null, .null, .null] [] h else some (.inl none, h) else none else none :=
  (x174_0 ..).trans ((x174_1 ..).trans ((gs_if ..).trans (ic9 ((x174_4 ..).trans ((x174_5 ..).trans ((gs_if ..).trans (ic9 (rfl) ((x174_8 ..).trans ((x174_9 ..).trans ((x174_10 ..).trans ((gs_if ..).trans (ic9 ((x174_13 ..).trans ((gs_if ..).trans (ic9 (rfl) ((x174_16 ..))))) rfl))))))))) rfl)))
theorem s174_17 (d : Nat) (h : gd_H) (v0 : Nat) (v1 : Int32) (v2 : Int32) (v3 : Int32) (w4 : Value) (w5 : Value) (w6 : Value) : go gd_P0 d 174 17 [.ref v0, .int v1, .int v2, .int v3, w4, w5, w6] [] h =
    if v1 = 0 then if gT h v0 = 7 then if gT h v0 = 7 then if gT h v0 = 7 then if (gT h (gR h v0 0) = 31 ∧ gT h (gR h v0 1) = 31) ∧ ((¬ (0 : Int32) < 0 ∧ ¬ (0 : Int32) < 0) ∧ (¬ (7 : Int32) < 0 ∧ (Int32.toNatClampNeg 0 + Int32.toNatClampNeg 7 ≤ gL h (gR h v0 0) ∧ Int32.toNatClampNeg 0 + Int32.toNatClampNeg 7 ≤ gL h (gR h v0 1)))) then go gd_P0 d 174 41 [.ref v0, .int v1, .int v2, .int v3, .null, .null, .null] [] (wI h (cpy (up1 (gI h) v0 3 v3) (gR h v0 0) (Int32.toNatClampNeg 0) (gR h v0 1) (Int32.toNatClampNeg 0) (Int32.toNatClampNeg 7))) else none else none else none else none else gc gd_P0 d 174 43 46 [.ref v0, .int v1, .int v2, .int v3, .null, .null, .null] [] (run gd_P0 d 3 [.int v1] h) :=
  (x174_17 ..).trans ((x174_18 ..).trans ((gs_if ..).trans (ic9 ((x174_21 ..).trans ((x174_22 ..).trans ((x174_23 ..).trans ((gs_if ..).trans (ic9 ((x174_26 ..).trans ((x174_27 ..).trans ((gs_if ..).trans (ic9 ((x174_30 ..).trans ((x174_31 ..).trans ((x174_32 ..).trans ((gs_if ..).trans (ic9 ((x174_35 ..).trans ((x174_36 ..).trans ((x174_38 ..).trans ((gs_if ..).trans (ic9 (rfl) rfl))))) rfl))))) rfl)))) rfl))))) ((x174_42 ..).trans ((x174_43 ..))))))
theorem s174_41 (d : Nat) (h : gd_H) (w0 : Value) (w1 : Value) (w2 : Value) (w3 : Value) (w4 : Value) (w5 : Value) (w6 : Value) : go gd_P0 d 174 41 [w0, w1, w2, w3, w4, w5, w6] [] h =
    some (.inl none, h) :=
  (x174_41 ..)
theorem s174_46 (d : Nat) (h : gd_H) (v0 : Nat) (v1 : Int32) (v2 : Int32) (v3 : Int32) (w4 : Value) (w5 : Value) (w6 : Value) (z0 : Int32) : go gd_P0 d 174 46 [.ref v0, .int v1, .int v2, .int v3, w4, w5, w6] [.int z0] h =
    go gd_P0 d 174 64 [.ref v0, .int v1, .int v2, .int v3, .int z0, .int (v1 &&& (((1 : Int32) <<< (z0 &&& 31)) ^^^ ((-1) : Int32))), .int (z0 + 1)] [] h :=
  (x174_46 ..).trans ((x174_48 ..).trans ((x174_49 ..).trans ((x174_50 ..).trans ((x174_52 ..).trans ((x174_53 ..).trans ((x174_54 ..).trans ((x174_55 ..).trans ((x174_56 ..).trans ((x174_58 ..).trans ((x174_60 ..).trans ((x174_61 ..).trans ((x174_62 ..)))))))))))))
theorem s174_64 (d : Nat) (h : gd_H) (v0 : Nat) (w1 : Value) (v2 : Int32) (v3 : Int32) (v4 : Int32) (v5 : Int32) (v6 : Int32) : go gd_P0 d 174 64 [.ref v0, w1, .int v2, .int v3, .int v4, .int v5, .int v6] [] h =
    if gT h v0 = 7 then if gT h (gR h v0 2) = 4 then if gT h (gR h (gR h v0 2) 9) = 6 then if (gI h (gR h (gR h v0 2) 9) 7) ≤ v6 then if gT h v0 = 7 then if gT h (gR h v0 0) = 31 ∧ ¬ (v4 < 0 ∨ gL h (gR h v0 0) ≤ Int32.toNatClampNeg v4) then if v2 = 0 then go gd_P0 d 174 176 [.ref v0, .null, .int v2, .int v3, .int v4, .int v5, .int v6] [] (wI h (up1 (gI h) (gR h v0 0) (Int32.toNatClampNeg v4) (-1))) else if gT h v0 = 7 then gc gd_P0 d 174 173 176 [.ref v0, .null, .int v2, .int v3, .int v4, .int v5, .int v6] [] (run gd_P0 d 174 [.ref v0, .int v5, .int 0, .int v3] (wI h (up1 (gI h) (gR h v0 0) (Int32.toNatClampNeg v4) (-1)))) else none else none else none else if ((v5 >>> (v6 &&& 31)) &&& (1 : Int32)) = 0 then go gd_P0 d 174 150 [.ref v0, .null, .int v2, .int v3, .int v4, .int v5, .int v6] [] h else if gT h v0 = 7 then if gT h (gR h v0 0) = 31 ∧ ¬ (v4 < 0 ∨ gL h (gR h v0 0) ≤ Int32.toNatClampNeg v4) then if gT h v0 = 7 then if gT h (gR h v0 0) = 31 ∧ ¬ (v6 < 0 ∨ gL h (gR h v0 0) ≤ Int32.toNatClampNeg v6) then if gT h v0 = 7 then if gT h (gR h v0 2) = 4 then if gT h (gR h (gR h v0 2) 1) = 31 ∧ ¬ (v4 < 0 ∨ gL h (gR h (gR h v0 2) 1) ≤ Int32.toNatClampNeg v4) then if gT h v0 = 7 then if gT h (gR h v0 2) = 4 then if gT h (gR h (gR h v0 2) 1) = 31 ∧ ¬ (v6 < 0 ∨ gL h (gR h (gR h v0 2) 1) ≤ Int32.toNatClampNeg v6) then go gd_P0 d 174 146 [.ref v0, .null, .int v2, .int v3, .int v4, .int v5, .int v6] [.int (if 0 ≤ (((up1 (up1 (gI h) (gR h v0 0) (Int32.toNatClampNeg v4) v6) (gR h v0 0) (Int32.toNatClampNeg v6) v4) (gR h (gR h v0 2) 1) (Int32.toNatClampNeg v4)) - ((up1 (up1 (gI h) (gR h v0 0) (Int32.toNatClampNeg v4) v6) (gR h v0 0) (Int32.toNatClampNeg v6) v4) (gR h (gR h v0 2) 1) (Int32.toNatClampNeg v6))) then (((up1 (up1 (gI h) (gR h v0 0) (Int32.toNatClampNeg v4) v6) (gR h v0 0) (Int32.toNatClampNeg v6) v4) (gR h (gR h v0 2) 1) (Int32.toNatClampNeg v4)) - ((up1 (up1 (gI h) (gR h v0 0) (Int32.toNatClampNeg v4) v6) (gR h v0 0) (Int32.toNatClampNeg v6) v4) (gR h (gR h v0 2) 1) (Int32.toNatClampNeg v6))) else 0 - (((up1 (up1 (gI h) (gR h v0 0) (Int32.toNatClampNeg v4) v6) (gR h v0 0) (Int32.toNatClampNeg v6) v4) (gR h (gR h v0 2) 1) (Int32.toNatClampNeg v4)) - ((up1 (up1 (gI h) (gR h v0 0) (Int32.toNatClampNeg v4) v6) (gR h v0 0) (Int32.toNatClampNeg v6) v4) (gR h (gR h v0 2) 1) (Int32.toNatClampNeg v6)))), .int v3, .int v2, .int (v5 &&& (((1 : Int32) <<< (v6 &&& 31)) ^^^ ((-1) : Int32))), .ref v0] (wI h (up1 (up1 (gI h) (gR h v0 0) (Int32.toNatClampNeg v4) v6) (gR h v0 0) (Int32.toNatClampNeg v6) v4)) else none else none else none else none else none else none else none else none else none else none else none else none else none :=
  (x174_64 ..).trans ((x174_66 ..).trans ((x174_67 ..).trans ((gs_if ..).trans (ic9 ((x174_70 ..).trans ((gs_if ..).trans (ic9 ((x174_73 ..).trans ((gs_if ..).trans (ic9 ((x174_76 ..).trans ((gs_if ..).trans (ic9 ((x174_156 ..).trans ((x174_157 ..).trans ((gs_if ..).trans (ic9 ((x174_160 ..).trans ((x174_162 ..).trans ((x174_163 ..).trans ((gs_if ..).trans (ic9 ((x174_164 ..).trans ((x174_165 ..).trans ((gs_if ..).trans (ic9 (rfl) ((x174_168 ..).trans ((x174_169 ..).trans ((x174_171 ..).trans ((x174_172 ..).trans ((x174_173 ..).trans ((gs_if ..).trans ((ia9 (by simp)).trans (ic9 rfl rfl)))))))))))) rfl))))) rfl)))) ((x174_79 ..).trans ((x174_81 ..).trans ((x174_83 ..).trans ((x174_84 ..).trans ((x174_85 ..).trans ((x174_86 ..).trans ((gs_if ..).trans (ic9 ((x174_89 ..)) ((x174_92 ..).trans ((x174_93 ..).trans ((gs_if ..).trans (ic9 ((x174_96 ..).trans ((x174_98 ..).trans ((x174_100 ..).trans ((gs_if ..).trans (ic9 ((x174_101 ..).trans ((x174_102 ..).trans ((gs_if ..).trans (ic9 ((x174_105 ..).trans ((x174_107 ..).trans ((x174_109 ..).trans ((gs_if ..).trans (ic9 ((x174_110 ..).trans ((x174_111 ..).trans ((x174_113 ..).trans ((x174_114 ..).trans ((x174_116 ..).trans ((x174_117 ..).trans ((x174_118 ..).trans ((x174_119 ..).trans ((x174_120 ..).trans ((x174_121 ..).trans ((x174_122 ..).trans ((x174_123 ..).trans ((gs_if ..).trans (ic9 ((x174_126 ..).trans ((gs_if ..).trans (ic9 ((x174_129 ..).trans ((x174_131 ..).trans ((gs_if ..).trans (ic9 ((x174_132 ..).trans ((x174_133 ..).trans ((gs_if ..).trans (ic9 ((x174_136 ..).trans ((gs_if ..).trans (ic9 ((x174_139 ..).trans ((x174_141 ..).trans ((gs_if ..).trans (ic9 ((x174_142 ..).trans ((x174_143 ..))) rfl)))) rfl))) rfl)))) rfl)))) rfl))) rfl)))))))))))))) rfl))))) rfl)))) rfl))))) rfl))))))))))))))) rfl))) rfl))) rfl))))
theorem s174_146 (d : Nat) (h : gd_H) (v0 : Nat) (w1 : Value) (v2 : Int32) (v3 : Int32) (v4 : Int32) (v5 : Int32) (v6 : Int32) (z0 : Int32) (z1 : Int32) (z2 : Int32) (z3 : Int32) (z4 : Nat) : go gd_P0 d 174 146 [.ref v0, w1, .int v2, .int v3, .int v4, .int v5, .int v6] [.int z0, .int z1, .int z2, .int z3, .ref z4] h =
    if gT h z4 = 7 then gc gd_P0 d 174 147 150 [.ref v0, .null, .int v2, .int v3, .int v4, .int v5, .int v6] [] (run gd_P0 d 174 [.ref z4, .int z3, .int z2, .int (z1 + z0)] h) else none :=
  (x174_146 ..).trans ((x174_147 ..).trans ((gs_if ..).trans ((ia9 (by simp)).trans (ic9 rfl rfl))))
theorem s174_150 (d : Nat) (h : gd_H) (v0 : Nat) (w1 : Value) (v2 : Int32) (v3 : Int32) (v4 : Int32) (v5 : Int32) (v6 : Int32) : go gd_P0 d 174 150 [.ref v0, w1, .int v2, .int v3, .int v4, .int v5, .int v6] [] h =
    go gd_P0 d 174 64 [.ref v0, .null, .int v2, .int v3, .int v4, .int v5, .int (v6 + 1)] [] h :=
  (x174_150 ..).trans ((x174_153 ..))
theorem s174_176 (d : Nat) (h : gd_H) (w0 : Value) (w1 : Value) (w2 : Value) (w3 : Value) (w4 : Value) (w5 : Value) (w6 : Value) : go gd_P0 d 174 176 [w0, w1, w2, w3, w4, w5, w6] [] h =
    some (.inl none, h) :=
  (x174_176 ..)
theorem r174 (d : Nat) (h : gd_H) (v0 : Nat) (v1 : Int32) (v2 : Int32) (v3 : Int32) : run gd_P0 (d + 1) 174 [.ref v0, .int v1, .int v2, .int v3] h = go gd_P0 d 174 0 [.ref v0, .int v1, .int v2, .int v3, .null, .null, .null] [] h := run_succ gd_P0 d 174 [.ref v0, .int v1, .int v2, .int v3] h (Nat.le_of_ble_eq_true rfl)
theorem x284_0 (d : Nat) (L st : List Value) (h : gd_H) : go gd_P0 d 284 0 L st h = gs gd_P0 d 284 0 L (i_ald 0 1 L st h) := go_eq gd_P0 d 284 0 L st h
theorem x284_1 (d : Nat) (L st : List Value) (h : gd_H) : go gd_P0 d 284 1 L st h = gs gd_P0 d 284 1 L (i_oin 4 L st h) := go_eq gd_P0 d 284 1 L st h
theorem x284_4 (d : Nat) (L st : List Value) (h : gd_H) : go gd_P0 d 284 4 L st h = gs gd_P0 d 284 4 L (i_msk [true, true] (i_ald 0 5) L st h) := go_eq gd_P0 d 284 4 L st h
theorem x284_5 (d : Nat) (L st : List Value) (h : gd_H) : go gd_P0 d 284 5 L st h = gs gd_P0 d 284 5 L (i_psh (.int 4) 6 L st h) := go_eq gd_P0 d 284 5 L st h
theorem x284_6 (d : Nat) (L st : List Value) (h : gd_H) : go gd_P0 d 284 6 L st h = gs gd_P0 d 284 6 L (i_newa 38 9 L st h) := go_eq gd_P0 d 284 6 L st h
theorem x284_9 (d : Nat) (L st : List Value) (h : gd_H) : go gd_P0 d 284 9 L st h = gs gd_P0 d 284 9 L (i_dup 10 L st h) := go_eq gd_P0 d 284 9 L st h
theorem x284_10 (d : Nat) (L st : List Value) (h : gd_H) : go gd_P0 d 284 10 L st h = gs gd_P0 d 284 10 L (i_psh (.int 0) 11 L st h) := go_eq gd_P0 d 284 10 L st h
theorem x284_11 (d : Nat) (L st : List Value) (h : gd_H) : go gd_P0 d 284 11 L st h = gs gd_P0 d 284 11 L (i_psh (.ref 8) 13 L st h) := go_eq gd_P0 d 284 11 L st h
theorem x284_13 (d : Nat) (L st : List Value) (h : gd_H) : go gd_P0 d 284 13 L st h = gs gd_P0 d 284 13 L (i_astS 14 L st h) := go_eq gd_P0 d 284 13 L st h
theorem x284_14 (d : Nat) (L st : List Value) (h : gd_H) : go gd_P0 d 284 14 L st h = gs gd_P0 d 284 14 L (i_dup 15 L st h) := go_eq gd_P0 d 284 14 L st h
theorem x284_15 (d : Nat) (L st : List Value) (h : gd_H) : go gd_P0 d 284 15 L st h = gs gd_P0 d 284 15 L (i_psh (.int 1) 16 L st h) := go_eq gd_P0 d 284 15 L st h
theorem x284_16 (d : Nat) (L st : List Value) (h : gd_H) : go gd_P0 d 284 16 L st h = gs gd_P0 d 284 16 L (i_psh (.ref 10) 18 L st h) := go_eq gd_P0 d 284 16 L st h
theorem x284_18 (d : Nat) (L st : List Value) (h : gd_H) : go gd_P0 d 284 18 L st h = gs gd_P0 d 284 18 L (i_astS 19 L st h) := go_eq gd_P0 d 284 18 L st h
theorem x284_19 (d : Nat) (L st : List Value) (h : gd_H) : go gd_P0 d 284 19 L st h = gs gd_P0 d 284 19 L (i_dup 20 L st h) := go_eq gd_P0 d 284 19 L st h
theorem x284_20 (d : Nat) (L st : List Value) (h : gd_H) : go gd_P0 d 284 20 L st h = gs gd_P0 d 284 20 L (i_psh (.int 2) 21 L st h) := go_eq gd_P0 d 284 20 L st h
theorem x284_21 (d : Nat) (L st : List Value) (h : gd_H) : go gd_P0 d 284 21 L st h = gs gd_P0 d 284 21 L (i_psh (.ref 12) 23 L st h) := go_eq gd_P0 d 284 21 L st h
theorem x284_23 (d : Nat) (L st : List Value) (h : gd_H) : go gd_P0 d 284 23 L st h = gs gd_P0 d 284 23 L (i_astS 24 L st h) := go_eq gd_P0 d 284 23 L st h
theorem x284_24 (d : Nat) (L st : List Value) (h : gd_H) : go gd_P0 d 284 24 L st h = gs gd_P0 d 284 24 L (i_dup 25 L st h) := go_eq gd_P0 d 284 24 L st h
theorem x284_25 (d : Nat) (L st : List Value) (h : gd_H) : go gd_P0 d 284 25 L st h = gs gd_P0 d 284 25 L (i_psh (.int 3) 26 L st h) := go_eq gd_P0 d 284 25 L st h
theorem x284_26 (d : Nat) (L st : List Value) (h : gd_H) : go gd_P0 d 284 26 L st h = gs gd_P0 d 284 26 L (i_psh (.ref 14) 28 L st h) := go_eq gd_P0 d 284 26 L st h
theorem x284_28 (d : Nat) (L st : List Value) (h : gd_H) : go gd_P0 d 284 28 L st h = gs gd_P0 d 284 28 L (i_astS 29 L st h) := go_eq gd_P0 d 284 28 L st h
theorem x284_29 (d : Nat) (L st : List Value) (h : gd_H) : go gd_P0 d 284 29 L st h = gs gd_P0 d 284 29 L (i_putR 9 0 32 L st h) := go_eq gd_P0 d 284 29 L st h
theorem x284_32 (d : Nat) (L st : List Value) (h : gd_H) : go gd_P0 d 284 32 L st h = gs gd_P0 d 284 32 L (i_ald 0 33 L st h) := go_eq gd_P0 d 284 32 L st h
theorem x284_33 (d : Nat) (L st : List Value) (h : gd_H) : go gd_P0 d 284 33 L st h = gs gd_P0 d 284 33 L (i_new 6 8 36 L st h) := go_eq gd_P0 d 284 33 L st h
theorem x284_36 (d : Nat) (L st : List Value) (h : gd_H) : go gd_P0 d 284 36 L st h = gs gd_P0 d 284 36 L (i_dup 37 L st h) := go_eq gd_P0 d 284 36 L st h
theorem x284_37 (d : Nat) (L st : List Value) (h : gd_H) : go gd_P0 d 284 37 L st h = gs gd_P0 d 284 37 L (i_cV 171 0 6 40 L st h) := go_eq gd_P0 d 284 37 L st h
theorem x284_40 (d : Nat) (L st : List Value) (h : gd_H) : go gd_P0 d 284 40 L st h = gs gd_P0 d 284 40 L (i_msk [true, true] (i_putR 9 2 43) L st h) := go_eq gd_P0 d 284 40 L st h
theorem x284_43 (d : Nat) (L st : List Value) (h : gd_H) : go gd_P0 d 284 43 L st h = gs gd_P0 d 284 43 L (i_ald 0 44 L st h) := go_eq gd_P0 d 284 43 L st h
theorem x284_44 (d : Nat) (L st : List Value) (h : gd_H) : go gd_P0 d 284 44 L st h = gs gd_P0 d 284 44 L (i_ald 1 45 L st h) := go_eq gd_P0 d 284 44 L st h
theorem x284_45 (d : Nat) (L st : List Value) (h : gd_H) : go gd_P0 d 284 45 L st h = gs gd_P0 d 284 45 L (i_putR 9 1 48 L st h) := go_eq gd_P0 d 284 45 L st h
theorem x284_48 (d : Nat) (L st : List Value) (h : gd_H) : go gd_P0 d 284 48 L st h = gs gd_P0 d 284 48 L (i_ret L st h) := go_eq gd_P0 d 284 48 L st h
theorem s284_0 (d : Nat) (h : gd_H) (v0 : Nat) (v1 : Nat) : go gd_P0 d 284 0 [.ref v0, .ref v1] [] h =
    if 4 ≤ v0 then go gd_P0 d 284 4 [.ref v0, .ref v1] [] h else none :=
  (x284_0 ..).trans ((x284_1 ..).trans ((gs_if ..).trans ((ia9 (by simp)).trans (ic9 (rfl) rfl))))
theorem s284_4 (d : Nat) (h : gd_H) (v0 : Nat) (v1 : Nat) : go gd_P0 d 284 4 [.ref v0, .ref v1] [] h =
    if gT (nw h 38 (Int32.toNatClampNeg 4) (Int32.toNatClampNeg 4)) (gS h) = 38 ∧ ((gT (nw h 38 (Int32.toNatClampNeg 4) (Int32.toNatClampNeg 4)) 8 = 23 ∧ 8 < 96) ∧ ¬ ((0 : Int32) < 0 ∨ gL (nw h 38 (Int32.toNatClampNeg 4) (Int32.toNatClampNeg 4)) (gS h) ≤ Int32.toNatClampNeg (0 : Int32))) then if gT (nw h 38 (Int32.toNatClampNeg 4) (Int32.toNatClampNeg 4)) (gS h) = 38 ∧ ((gT (nw h 38 (Int32.toNatClampNeg 4) (Int32.toNatClampNeg 4)) 10 = 23 ∧ 10 < 96) ∧ ¬ ((1 : Int32) < 0 ∨ gL (nw h 38 (Int32.toNatClampNeg 4) (Int32.toNatClampNeg 4)) (gS h) ≤ Int32.toNatClampNeg (1 : Int32))) then if gT (nw h 38 (Int32.toNatClampNeg 4) (Int32.toNatClampNeg 4)) (gS h) = 38 ∧ ((gT (nw h 38 (Int32.toNatClampNeg 4) (Int32.toNatClampNeg 4)) 12 = 23 ∧ 12 < 96) ∧ ¬ ((2 : Int32) < 0 ∨ gL (nw h 38 (Int32.toNatClampNeg 4) (Int32.toNatClampNeg 4)) (gS h) ≤ Int32.toNatClampNeg (2 : Int32))) then if gT (nw h 38 (Int32.toNatClampNeg 4) (Int32.toNatClampNeg 4)) (gS h) = 38 ∧ ((gT (nw h 38 (Int32.toNatClampNeg 4) (Int32.toNatClampNeg 4)) 14 = 23 ∧ 14 < 96) ∧ ¬ ((3 : Int32) < 0 ∨ gL (nw h 38 (Int32.toNatClampNeg 4) (Int32.toNatClampNeg 4)) (gS h) ≤ Int32.toNatClampNeg (3 : Int32))) then if gT (nw h 38 (Int32.toNatClampNeg 4) (Int32.toNatClampNeg 4)) v0 = 9 then if gT (nw (wR (nw h 38 (Int32.toNatClampNeg 4) (Int32.toNatClampNeg 4)) (up1 (up1 (up1 (up1 (up1 (gR (nw h 38 (Int32.toNatClampNeg 4) (Int32.toNatClampNeg 4))) (gS h) (Int32.toNatClampNeg (0 : Int32)) 8) (gS h) (Int32.toNatClampNeg (1 : Int32)) 10) (gS h) (Int32.toNatClampNeg (2 : Int32)) 12) (gS h) (Int32.toNatClampNeg (3 : Int32)) 14) v0 0 (gS h))) 6 0 8) (gS (nw h 38 (Int32.toNatClampNeg 4) (Int32.toNatClampNeg 4))) = 6 then gc gd_P0 d 284 37 40 [.ref v0, .ref v1] [.ref (gS (nw h 38 (Int32.toNatClampNeg 4) (Int32.toNatClampNeg 4))), .ref v0] (run gd_P0 d 171 [.ref (gS (nw h 38 (Int32.toNatClampNeg 4) (Int32.toNatClampNeg 4)))] (nw (wR (nw h 38 (Int32.toNatClampNeg 4) (Int32.toNatClampNeg 4)) (up1 (up1 (up1 (up1 (up1 (gR (nw h 38 (Int32.toNatClampNeg 4) (Int32.toNatClampNeg 4))) (gS h) (Int32.toNatClampNeg (0 : Int32)) 8) (gS h) (Int32.toNatClampNeg (1 : Int32)) 10) (gS h) (Int32.toNatClampNeg (2 : Int32)) 12) (gS h) (Int32.toNatClampNeg (3 : Int32)) 14) v0 0 (gS h))) 6 0 8)) else none else none else none else none else none else none :=
  (x284_4 ..).trans ((x284_5 ..).trans ((x284_6 ..).trans ((x284_9 ..).trans ((x284_10 ..).trans ((x284_11 ..).trans ((x284_13 ..).trans ((gs_if ..).trans (ic9 ((x284_14 ..).trans ((x284_15 ..).trans ((x284_16 ..).trans ((x284_18 ..).trans ((gs_if ..).trans (ic9 ((x284_19 ..).trans ((x284_20 ..).trans ((x284_21 ..).trans ((x284_23 ..).trans ((gs_if ..).trans (ic9 ((x284_24 ..).trans ((x284_25 ..).trans ((x284_26 ..).trans ((x284_28 ..).trans ((gs_if ..).trans (ic9 ((x284_29 ..).trans ((gs_if ..).trans (ic9 ((x284_32 ..).trans ((x284_33 ..).trans ((x284_36 ..).trans ((x284_37 ..).trans ((gs_if ..).trans ((ia9 (by simp)).trans (ic9 rfl rfl))))))) rfl))) rfl)))))) rfl)))))) rfl)))))) rfl))))))))
theorem s284_40 (d : Nat) (h : gd_H) (v0 : Nat) (v1 : Nat) (z0 : Nat) (z1 : Nat) : go gd_P0 d 284 40 [.ref v0, .ref v1] [.ref z0, .ref z1] h =
    if gT h z1 = 9 then if gT h v0 = 9 then some (.inl none, (wR h (up1 (up1 (gR h) z1 2 z0) v0 1 v1))) else none else none :=
  (x284_40 ..).trans ((gs_nif ..).trans (ic9 ((x284_43 ..).trans ((x284_44 ..).trans ((x284_45 ..).trans ((gs_if ..).trans (ic9 ((x284_48 ..)) rfl))))) rfl))
theorem r284 (d : Nat) (h : gd_H) (v0 : Nat) (v1 : Nat) : run gd_P0 (d + 1) 284 [.ref v0, .ref v1] h = go gd_P0 d 284 0 [.ref v0, .ref v1] [] h := run_succ gd_P0 d 284 [.ref v0, .ref v1] h (Nat.le_of_ble_eq_true rfl)
theorem x285_0 (d : Nat) (L st : List Value) (h : gd_H) : go gd_P0 d 285 0 L st h = gs gd_P0 d 285 0 L (i_msk [true] (i_ald 0 1) L st h) := go_eq gd_P0 d 285 0 L st h
theorem x285_1 (d : Nat) (L st : List Value) (h : gd_H) : go gd_P0 d 285 1 L st h = gs gd_P0 d 285 1 L (i_getR 9 1 4 L st h) := go_eq gd_P0 d 285 1 L st h
theorem x285_4 (d : Nat) (L st : List Value) (h : gd_H) : go gd_P0 d 285 4 L st h = gs gd_P0 d 285 4 L (i_cV 97 0 10 7 L st h) := go_eq gd_P0 d 285 4 L st h
theorem x285_7 (d : Nat) (L st : List Value) (h : gd_H) : go gd_P0 d 285 7 L st h = gs gd_P0 d 285 7 L (i_msk [true] (i_psh (.int (-1)) 8) L st h) := go_eq gd_P0 d 285 7 L st h
theorem x285_8 (d : Nat) (L st : List Value) (h : gd_H) : go gd_P0 d 285 8 L st h = gs gd_P0 d 285 8 L (i_iceq 18 11 L st h) := go_eq gd_P0 d 285 8 L st h
theorem x285_11 (d : Nat) (L st : List Value) (h : gd_H) : go gd_P0 d 285 11 L st h = gs gd_P0 d 285 11 L (i_ald 0 12 L st h) := go_eq gd_P0 d 285 11 L st h
theorem x285_12 (d : Nat) (L st : List Value) (h : gd_H) : go gd_P0 d 285 12 L st h = gs gd_P0 d 285 12 L (i_cV 286 0 9 15 L st h) := go_eq gd_P0 d 285 12 L st h
theorem x285_15 (d : Nat) (L st : List Value) (h : gd_H) : go gd_P0 d 285 15 L st h = gs gd_P0 d 285 15 L (i_msk [true] (i_goto 0) L st h) := go_eq gd_P0 d 285 15 L st h
theorem x285_18 (d : Nat) (L st : List Value) (h : gd_H) : go gd_P0 d 285 18 L st h = gs gd_P0 d 285 18 L (i_ald 0 19 L st h) := go_eq gd_P0 d 285 18 L st h
theorem x285_19 (d : Nat) (L st : List Value) (h : gd_H) : go gd_P0 d 285 19 L st h = gs gd_P0 d 285 19 L (i_getR 9 2 22 L st h) := go_eq gd_P0 d 285 19 L st h
theorem x285_22 (d : Nat) (L st : List Value) (h : gd_H) : go gd_P0 d 285 22 L st h = gs gd_P0 d 285 22 L (i_aret L st h) := go_eq gd_P0 d 285 22 L st h
theorem s285_0 (d : Nat) (h : gd_H) (v0 : Nat) : go gd_P0 d 285 0 [.ref v0] [] h =
    if gT h v0 = 9 then if gT h (gR h v0 1) = 10 then gc gd_P0 d 285 4 7 [.ref v0] [] (run gd_P0 d 97 [.ref (gR h v0 1)] h) else none else none :=
  (x285_0 ..).trans ((x285_1 ..).trans ((gs_if ..).trans (ic9 ((x285_4 ..).trans ((gs_if ..).trans ((ia9 (by simp)).trans (ic9 rfl rfl)))) rfl)))
theorem s285_7 (d : Nat) (h : gd_H) (v0 : Nat) (z0 : Int32) : go gd_P0 d 285 7 [.ref v0] [.int z0] h =
    if z0 = (-1) then if gT h v0 = 9 then some (.inl (some (.ref (gR h v0 2))), h) else none else if gT h v0 = 9 then gc gd_P0 d 285 12 15 [.ref v0] [] (run gd_P0 d 286 [.ref v0] h) else none :=
  (x285_7 ..).trans ((x285_8 ..).trans ((gs_if ..).trans (ic9 ((x285_18 ..).trans ((x285_19 ..).trans ((gs_if ..).trans (ic9 ((x285_22 ..)) rfl)))) ((x285_11 ..).trans ((x285_12 ..).trans ((gs_if ..).trans ((ia9 (by simp)).trans (ic9 rfl rfl))))))))
theorem s285_15 (d : Nat) (h : gd_H) (v0 : Nat) : go gd_P0 d 285 15 [.ref v0] [] h =
    go gd_P0 d 285 0 [.ref v0] [] h :=
  (x285_15 ..)
theorem r285 (d : Nat) (h : gd_H) (v0 : Nat) : run gd_P0 (d + 1) 285 [.ref v0] h = go gd_P0 d 285 0 [.ref v0] [] h := run_succ gd_P0 d 285 [.ref v0] h (Nat.le_of_ble_eq_true rfl)
theorem x286_0 (d : Nat) (L st : List Value) (h : gd_H) : go gd_P0 d 286 0 L st h = gs gd_P0 d 286 0 L (i_ald 0 1 L st h) := go_eq gd_P0 d 286 0 L st h
theorem x286_1 (d : Nat) (L st : List Value) (h : gd_H) : go gd_P0 d 286 1 L st h = gs gd_P0 d 286 1 L (i_getR 9 1 4 L st h) := go_eq gd_P0 d 286 1 L st h
theorem x286_4 (d : Nat) (L st : List Value) (h : gd_H) : go gd_P0 d 286 4 L st h = gs gd_P0 d 286 4 L (i_cV 99 0 10 7 L st h) := go_eq gd_P0 d 286 4 L st h
theorem x286_7 (d : Nat) (L st : List Value) (h : gd_H) : go gd_P0 d 286 7 L st h = gs gd_P0 d 286 7 L (i_msk [true, false, false, false] (i_ist 1 8) L st h) := go_eq gd_P0 d 286 7 L st h
theorem x286_8 (d : Nat) (L st : List Value) (h : gd_H) : go gd_P0 d 286 8 L st h = gs gd_P0 d 286 8 L (i_ald 0 9 L st h) := go_eq gd_P0 d 286 8 L st h
theorem x286_9 (d : Nat) (L st : List Value) (h : gd_H) : go gd_P0 d 286 9 L st h = gs gd_P0 d 286 9 L (i_getR 9 1 12 L st h) := go_eq gd_P0 d 286 9 L st h
theorem x286_12 (d : Nat) (L st : List Value) (h : gd_H) : go gd_P0 d 286 12 L st h = gs gd_P0 d 286 12 L (i_ald 0 13 L st h) := go_eq gd_P0 d 286 12 L st h
theorem x286_13 (d : Nat) (L st : List Value) (h : gd_H) : go gd_P0 d 286 13 L st h = gs gd_P0 d 286 13 L (i_getR 9 0 16 L st h) := go_eq gd_P0 d 286 13 L st h
theorem x286_16 (d : Nat) (L st : List Value) (h : gd_H) : go gd_P0 d 286 16 L st h = gs gd_P0 d 286 16 L (i_cV 100 1 10 19 L st h) := go_eq gd_P0 d 286 16 L st h
theorem x286_19 (d : Nat) (L st : List Value) (h : gd_H) : go gd_P0 d 286 19 L st h = gs gd_P0 d 286 19 L (i_msk [true, true, false, false] (i_ist 2 20) L st h) := go_eq gd_P0 d 286 19 L st h
theorem x286_20 (d : Nat) (L st : List Value) (h : gd_H) : go gd_P0 d 286 20 L st h = gs gd_P0 d 286 20 L (i_ild 2 21 L st h) := go_eq gd_P0 d 286 20 L st h
theorem x286_21 (d : Nat) (L st : List Value) (h : gd_H) : go gd_P0 d 286 21 L st h = gs gd_P0 d 286 21 L (i_psh (.int (-1)) 22 L st h) := go_eq gd_P0 d 286 21 L st h
theorem x286_22 (d : Nat) (L st : List Value) (h : gd_H) : go gd_P0 d 286 22 L st h = gs gd_P0 d 286 22 L (i_icne 35 25 L st h) := go_eq gd_P0 d 286 22 L st h
theorem x286_25 (d : Nat) (L st : List Value) (h : gd_H) : go gd_P0 d 286 25 L st h = gs gd_P0 d 286 25 L (i_new 11 8 28 L st h) := go_eq gd_P0 d 286 25 L st h
theorem x286_28 (d : Nat) (L st : List Value) (h : gd_H) : go gd_P0 d 286 28 L st h = gs gd_P0 d 286 28 L (i_dup 29 L st h) := go_eq gd_P0 d 286 28 L st h
theorem x286_29 (d : Nat) (L st : List Value) (h : gd_H) : go gd_P0 d 286 29 L st h = gs gd_P0 d 286 29 L (i_psh (.int 1) 30 L st h) := go_eq gd_P0 d 286 29 L st h
theorem x286_30 (d : Nat) (L st : List Value) (h : gd_H) : go gd_P0 d 286 30 L st h = gs gd_P0 d 286 30 L (i_ild 1 31 L st h) := go_eq gd_P0 d 286 30 L st h
theorem x286_31 (d : Nat) (L st : List Value) (h : gd_H) : go gd_P0 d 286 31 L st h = gs gd_P0 d 286 31 L (i_cV 111 2 11 34 L st h) := go_eq gd_P0 d 286 31 L st h
theorem x286_34 (d : Nat) (L st : List Value) (h : gd_H) : go gd_P0 d 286 34 L st h = gs gd_P0 d 286 34 L (i_thr L st h) := go_eq gd_P0 d 286 34 L st h
theorem x286_35 (d : Nat) (L st : List Value) (h : gd_H) : go gd_P0 d 286 35 L st h = gs gd_P0 d 286 35 L (i_ald 0 36 L st h) := go_eq gd_P0 d 286 35 L st h
theorem x286_36 (d : Nat) (L st : List Value) (h : gd_H) : go gd_P0 d 286 36 L st h = gs gd_P0 d 286 36 L (i_ild 2 37 L st h) := go_eq gd_P0 d 286 36 L st h
theorem x286_37 (d : Nat) (L st : List Value) (h : gd_H) : go gd_P0 d 286 37 L st h = gs gd_P0 d 286 37 L (i_cV 287 1 9 40 L st h) := go_eq gd_P0 d 286 37 L st h
theorem x286_40 (d : Nat) (L st : List Value) (h : gd_H) : go gd_P0 d 286 40 L st h = gs gd_P0 d 286 40 L (i_msk [true, true, true, false] (i_ifeq 53 43) L st h) := go_eq gd_P0 d 286 40 L st h
theorem x286_43 (d : Nat) (L st : List Value) (h : gd_H) : go gd_P0 d 286 43 L st h = gs gd_P0 d 286 43 L (i_new 11 8 46 L st h) := go_eq gd_P0 d 286 43 L st h
theorem x286_46 (d : Nat) (L st : List Value) (h : gd_H) : go gd_P0 d 286 46 L st h = gs gd_P0 d 286 46 L (i_dup 47 L st h) := go_eq gd_P0 d 286 46 L st h
theorem x286_47 (d : Nat) (L st : List Value) (h : gd_H) : go gd_P0 d 286 47 L st h = gs gd_P0 d 286 47 L (i_psh (.int 3) 48 L st h) := go_eq gd_P0 d 286 47 L st h
theorem x286_48 (d : Nat) (L st : List Value) (h : gd_H) : go gd_P0 d 286 48 L st h = gs gd_P0 d 286 48 L (i_ild 1 49 L st h) := go_eq gd_P0 d 286 48 L st h
theorem x286_49 (d : Nat) (L st : List Value) (h : gd_H) : go gd_P0 d 286 49 L st h = gs gd_P0 d 286 49 L (i_cV 111 2 11 52 L st h) := go_eq gd_P0 d 286 49 L st h
theorem x286_52 (d : Nat) (L st : List Value) (h : gd_H) : go gd_P0 d 286 52 L st h = gs gd_P0 d 286 52 L (i_thr L st h) := go_eq gd_P0 d 286 52 L st h
theorem x286_53 (d : Nat) (L st : List Value) (h : gd_H) : go gd_P0 d 286 53 L st h = gs gd_P0 d 286 53 L (i_ald 0 54 L st h) := go_eq gd_P0 d 286 53 L st h
theorem x286_54 (d : Nat) (L st : List Value) (h : gd_H) : go gd_P0 d 286 54 L st h = gs gd_P0 d 286 54 L (i_getR 9 1 57 L st h) := go_eq gd_P0 d 286 54 L st h
theorem x286_57 (d : Nat) (L st : List Value) (h : gd_H) : go gd_P0 d 286 57 L st h = gs gd_P0 d 286 57 L (i_cV 103 0 10 60 L st h) := go_eq gd_P0 d 286 57 L st h
theorem x286_60 (d : Nat) (L st : List Value) (h : gd_H) : go gd_P0 d 286 60 L st h = gs gd_P0 d 286 60 L (i_msk [true, false, true, false] (i_ald 0 61) L st h) := go_eq gd_P0 d 286 60 L st h
theorem x286_61 (d : Nat) (L st : List Value) (h : gd_H) : go gd_P0 d 286 61 L st h = gs gd_P0 d 286 61 L (i_dup 62 L st h) := go_eq gd_P0 d 286 61 L st h
theorem x286_62 (d : Nat) (L st : List Value) (h : gd_H) : go gd_P0 d 286 62 L st h = gs gd_P0 d 286 62 L (i_getI 9 3 65 L st h) := go_eq gd_P0 d 286 62 L st h
theorem x286_65 (d : Nat) (L st : List Value) (h : gd_H) : go gd_P0 d 286 65 L st h = gs gd_P0 d 286 65 L (i_psh (.int 1) 66 L st h) := go_eq gd_P0 d 286 65 L st h
theorem x286_66 (d : Nat) (L st : List Value) (h : gd_H) : go gd_P0 d 286 66 L st h = gs gd_P0 d 286 66 L (i_iadd 67 L st h) := go_eq gd_P0 d 286 66 L st h
theorem x286_67 (d : Nat) (L st : List Value) (h : gd_H) : go gd_P0 d 286 67 L st h = gs gd_P0 d 286 67 L (i_putI 9 3 70 L st h) := go_eq gd_P0 d 286 67 L st h
theorem x286_70 (d : Nat) (L st : List Value) (h : gd_H) : go gd_P0 d 286 70 L st h = gs gd_P0 d 286 70 L (i_ild 2 71 L st h) := go_eq gd_P0 d 286 70 L st h
theorem x286_71 (d : Nat) (L st : List Value) (h : gd_H) : go gd_P0 d 286 71 L st h = gs gd_P0 d 286 71 L (i_sw [(0, 96), (1, 162), (2, 229)] 236 L st h) := go_eq gd_P0 d 286 71 L st h
theorem x286_96 (d : Nat) (L st : List Value) (h : gd_H) : go gd_P0 d 286 96 L st h = gs gd_P0 d 286 96 L (i_ald 0 97 L st h) := go_eq gd_P0 d 286 96 L st h
theorem x286_97 (d : Nat) (L st : List Value) (h : gd_H) : go gd_P0 d 286 97 L st h = gs gd_P0 d 286 97 L (i_getR 9 2 100 L st h) := go_eq gd_P0 d 286 97 L st h
theorem x286_100 (d : Nat) (L st : List Value) (h : gd_H) : go gd_P0 d 286 100 L st h = gs gd_P0 d 286 100 L (i_getR 6 0 103 L st h) := go_eq gd_P0 d 286 100 L st h
theorem x286_103 (d : Nat) (L st : List Value) (h : gd_H) : go gd_P0 d 286 103 L st h = gs gd_P0 d 286 103 L (i_ald 0 104 L st h) := go_eq gd_P0 d 286 103 L st h
theorem x286_104 (d : Nat) (L st : List Value) (h : gd_H) : go gd_P0 d 286 104 L st h = gs gd_P0 d 286 104 L (i_getR 9 2 107 L st h) := go_eq gd_P0 d 286 104 L st h
theorem x286_107 (d : Nat) (L st : List Value) (h : gd_H) : go gd_P0 d 286 107 L st h = gs gd_P0 d 286 107 L (i_getI 6 6 110 L st h) := go_eq gd_P0 d 286 107 L st h
theorem x286_110 (d : Nat) (L st : List Value) (h : gd_H) : go gd_P0 d 286 110 L st h = gs gd_P0 d 286 110 L (i_ald 0 111 L st h) := go_eq gd_P0 d 286 110 L st h
theorem x286_111 (d : Nat) (L st : List Value) (h : gd_H) : go gd_P0 d 286 111 L st h = gs gd_P0 d 286 111 L (i_getR 9 1 114 L st h) := go_eq gd_P0 d 286 111 L st h
theorem x286_114 (d : Nat) (L st : List Value) (h : gd_H) : go gd_P0 d 286 114 L st h = gs gd_P0 d 286 114 L (i_psh (.int 1) 115 L st h) := go_eq gd_P0 d 286 114 L st h
theorem x286_115 (d : Nat) (L st : List Value) (h : gd_H) : go gd_P0 d 286 115 L st h = gs gd_P0 d 286 115 L (i_psh (.int 60) 117 L st h) := go_eq gd_P0 d 286 115 L st h
theorem x286_117 (d : Nat) (L st : List Value) (h : gd_H) : go gd_P0 d 286 117 L st h = gs gd_P0 d 286 117 L (i_cV 104 2 10 120 L st h) := go_eq gd_P0 d 286 117 L st h
theorem x286_120 (d : Nat) (L st : List Value) (h : gd_H) : go gd_P0 d 286 120 L st h = gs gd_P0 d 286 120 L (i_msk [true, false, false, false] (i_astI 121) L st h) := go_eq gd_P0 d 286 120 L st h
theorem x286_121 (d : Nat) (L st : List Value) (h : gd_H) : go gd_P0 d 286 121 L st h = gs gd_P0 d 286 121 L (i_ald 0 122 L st h) := go_eq gd_P0 d 286 121 L st h
theorem x286_122 (d : Nat) (L st : List Value) (h : gd_H) : go gd_P0 d 286 122 L st h = gs gd_P0 d 286 122 L (i_getR 9 2 125 L st h) := go_eq gd_P0 d 286 122 L st h
theorem x286_125 (d : Nat) (L st : List Value) (h : gd_H) : go gd_P0 d 286 125 L st h = gs gd_P0 d 286 125 L (i_getR 6 1 128 L st h) := go_eq gd_P0 d 286 125 L st h
theorem x286_128 (d : Nat) (L st : List Value) (h : gd_H) : go gd_P0 d 286 128 L st h = gs gd_P0 d 286 128 L (i_ald 0 129 L st h) := go_eq gd_P0 d 286 128 L st h
theorem x286_129 (d : Nat) (L st : List Value) (h : gd_H) : go gd_P0 d 286 129 L st h = gs gd_P0 d 286 129 L (i_getR 9 2 132 L st h) := go_eq gd_P0 d 286 129 L st h
theorem x286_132 (d : Nat) (L st : List Value) (h : gd_H) : go gd_P0 d 286 132 L st h = gs gd_P0 d 286 132 L (i_getI 6 6 135 L st h) := go_eq gd_P0 d 286 132 L st h
theorem x286_135 (d : Nat) (L st : List Value) (h : gd_H) : go gd_P0 d 286 135 L st h = gs gd_P0 d 286 135 L (i_ald 0 136 L st h) := go_eq gd_P0 d 286 135 L st h
theorem x286_136 (d : Nat) (L st : List Value) (h : gd_H) : go gd_P0 d 286 136 L st h = gs gd_P0 d 286 136 L (i_getR 9 1 139 L st h) := go_eq gd_P0 d 286 136 L st h
theorem x286_139 (d : Nat) (L st : List Value) (h : gd_H) : go gd_P0 d 286 139 L st h = gs gd_P0 d 286 139 L (i_psh (.int 0) 140 L st h) := go_eq gd_P0 d 286 139 L st h
theorem x286_140 (d : Nat) (L st : List Value) (h : gd_H) : go gd_P0 d 286 140 L st h = gs gd_P0 d 286 140 L (i_psh (.int 9) 142 L st h) := go_eq gd_P0 d 286 140 L st h
theorem x286_142 (d : Nat) (L st : List Value) (h : gd_H) : go gd_P0 d 286 142 L st h = gs gd_P0 d 286 142 L (i_cV 104 2 10 145 L st h) := go_eq gd_P0 d 286 142 L st h
theorem x286_145 (d : Nat) (L st : List Value) (h : gd_H) : go gd_P0 d 286 145 L st h = gs gd_P0 d 286 145 L (i_msk [true, false, false, false] (i_astI 146) L st h) := go_eq gd_P0 d 286 145 L st h
theorem x286_146 (d : Nat) (L st : List Value) (h : gd_H) : go gd_P0 d 286 146 L st h = gs gd_P0 d 286 146 L (i_ald 0 147 L st h) := go_eq gd_P0 d 286 146 L st h
theorem x286_147 (d : Nat) (L st : List Value) (h : gd_H) : go gd_P0 d 286 147 L st h = gs gd_P0 d 286 147 L (i_getR 9 2 150 L st h) := go_eq gd_P0 d 286 147 L st h
theorem x286_150 (d : Nat) (L st : List Value) (h : gd_H) : go gd_P0 d 286 150 L st h = gs gd_P0 d 286 150 L (i_dup 151 L st h) := go_eq gd_P0 d 286 150 L st h
theorem x286_151 (d : Nat) (L st : List Value) (h : gd_H) : go gd_P0 d 286 151 L st h = gs gd_P0 d 286 151 L (i_getI 6 6 154 L st h) := go_eq gd_P0 d 286 151 L st h
theorem x286_154 (d : Nat) (L st : List Value) (h : gd_H) : go gd_P0 d 286 154 L st h = gs gd_P0 d 286 154 L (i_psh (.int 1) 155 L st h) := go_eq gd_P0 d 286 154 L st h
theorem x286_155 (d : Nat) (L st : List Value) (h : gd_H) : go gd_P0 d 286 155 L st h = gs gd_P0 d 286 155 L (i_iadd 156 L st h) := go_eq gd_P0 d 286 155 L st h
theorem x286_156 (d : Nat) (L st : List Value) (h : gd_H) : go gd_P0 d 286 156 L st h = gs gd_P0 d 286 156 L (i_putI 6 6 159 L st h) := go_eq gd_P0 d 286 156 L st h
theorem x286_159 (d : Nat) (L st : List Value) (h : gd_H) : go gd_P0 d 286 159 L st h = gs gd_P0 d 286 159 L (i_goto 269 L st h) := go_eq gd_P0 d 286 159 L st h
theorem x286_162 (d : Nat) (L st : List Value) (h : gd_H) : go gd_P0 d 286 162 L st h = gs gd_P0 d 286 162 L (i_ald 0 163 L st h) := go_eq gd_P0 d 286 162 L st h
theorem x286_163 (d : Nat) (L st : List Value) (h : gd_H) : go gd_P0 d 286 163 L st h = gs gd_P0 d 286 163 L (i_getR 9 2 166 L st h) := go_eq gd_P0 d 286 163 L st h
theorem x286_166 (d : Nat) (L st : List Value) (h : gd_H) : go gd_P0 d 286 166 L st h = gs gd_P0 d 286 166 L (i_getR 6 2 169 L st h) := go_eq gd_P0 d 286 166 L st h
theorem x286_169 (d : Nat) (L st : List Value) (h : gd_H) : go gd_P0 d 286 169 L st h = gs gd_P0 d 286 169 L (i_ald 0 170 L st h) := go_eq gd_P0 d 286 169 L st h
theorem x286_170 (d : Nat) (L st : List Value) (h : gd_H) : go gd_P0 d 286 170 L st h = gs gd_P0 d 286 170 L (i_getR 9 2 173 L st h) := go_eq gd_P0 d 286 170 L st h
theorem x286_173 (d : Nat) (L st : List Value) (h : gd_H) : go gd_P0 d 286 173 L st h = gs gd_P0 d 286 173 L (i_getI 6 7 176 L st h) := go_eq gd_P0 d 286 173 L st h
theorem x286_176 (d : Nat) (L st : List Value) (h : gd_H) : go gd_P0 d 286 176 L st h = gs gd_P0 d 286 176 L (i_ald 0 177 L st h) := go_eq gd_P0 d 286 176 L st h
theorem x286_177 (d : Nat) (L st : List Value) (h : gd_H) : go gd_P0 d 286 177 L st h = gs gd_P0 d 286 177 L (i_getR 9 1 180 L st h) := go_eq gd_P0 d 286 177 L st h
theorem x286_180 (d : Nat) (L st : List Value) (h : gd_H) : go gd_P0 d 286 180 L st h = gs gd_P0 d 286 180 L (i_psh (.int 1) 181 L st h) := go_eq gd_P0 d 286 180 L st h
theorem x286_181 (d : Nat) (L st : List Value) (h : gd_H) : go gd_P0 d 286 181 L st h = gs gd_P0 d 286 181 L (i_psh (.int 200) 184 L st h) := go_eq gd_P0 d 286 181 L st h
theorem x286_184 (d : Nat) (L st : List Value) (h : gd_H) : go gd_P0 d 286 184 L st h = gs gd_P0 d 286 184 L (i_cV 104 2 10 187 L st h) := go_eq gd_P0 d 286 184 L st h
theorem x286_187 (d : Nat) (L st : List Value) (h : gd_H) : go gd_P0 d 286 187 L st h = gs gd_P0 d 286 187 L (i_msk [true, false, false, false] (i_astI 188) L st h) := go_eq gd_P0 d 286 187 L st h
theorem x286_188 (d : Nat) (L st : List Value) (h : gd_H) : go gd_P0 d 286 188 L st h = gs gd_P0 d 286 188 L (i_ald 0 189 L st h) := go_eq gd_P0 d 286 188 L st h
theorem x286_189 (d : Nat) (L st : List Value) (h : gd_H) : go gd_P0 d 286 189 L st h = gs gd_P0 d 286 189 L (i_getR 9 2 192 L st h) := go_eq gd_P0 d 286 189 L st h
theorem x286_192 (d : Nat) (L st : List Value) (h : gd_H) : go gd_P0 d 286 192 L st h = gs gd_P0 d 286 192 L (i_getR 6 3 195 L st h) := go_eq gd_P0 d 286 192 L st h
theorem x286_195 (d : Nat) (L st : List Value) (h : gd_H) : go gd_P0 d 286 195 L st h = gs gd_P0 d 286 195 L (i_ald 0 196 L st h) := go_eq gd_P0 d 286 195 L st h
theorem x286_196 (d : Nat) (L st : List Value) (h : gd_H) : go gd_P0 d 286 196 L st h = gs gd_P0 d 286 196 L (i_getR 9 2 199 L st h) := go_eq gd_P0 d 286 196 L st h
theorem x286_199 (d : Nat) (L st : List Value) (h : gd_H) : go gd_P0 d 286 199 L st h = gs gd_P0 d 286 199 L (i_getI 6 7 202 L st h) := go_eq gd_P0 d 286 199 L st h
theorem x286_202 (d : Nat) (L st : List Value) (h : gd_H) : go gd_P0 d 286 202 L st h = gs gd_P0 d 286 202 L (i_ald 0 203 L st h) := go_eq gd_P0 d 286 202 L st h
theorem x286_203 (d : Nat) (L st : List Value) (h : gd_H) : go gd_P0 d 286 203 L st h = gs gd_P0 d 286 203 L (i_getR 9 1 206 L st h) := go_eq gd_P0 d 286 203 L st h
theorem x286_206 (d : Nat) (L st : List Value) (h : gd_H) : go gd_P0 d 286 206 L st h = gs gd_P0 d 286 206 L (i_psh (.int 0) 207 L st h) := go_eq gd_P0 d 286 206 L st h
theorem x286_207 (d : Nat) (L st : List Value) (h : gd_H) : go gd_P0 d 286 207 L st h = gs gd_P0 d 286 207 L (i_psh (.int 9) 209 L st h) := go_eq gd_P0 d 286 207 L st h
theorem x286_209 (d : Nat) (L st : List Value) (h : gd_H) : go gd_P0 d 286 209 L st h = gs gd_P0 d 286 209 L (i_cV 104 2 10 212 L st h) := go_eq gd_P0 d 286 209 L st h
theorem x286_212 (d : Nat) (L st : List Value) (h : gd_H) : go gd_P0 d 286 212 L st h = gs gd_P0 d 286 212 L (i_msk [true, false, false, false] (i_astI 213) L st h) := go_eq gd_P0 d 286 212 L st h
theorem x286_213 (d : Nat) (L st : List Value) (h : gd_H) : go gd_P0 d 286 213 L st h = gs gd_P0 d 286 213 L (i_ald 0 214 L st h) := go_eq gd_P0 d 286 213 L st h
theorem x286_214 (d : Nat) (L st : List Value) (h : gd_H) : go gd_P0 d 286 214 L st h = gs gd_P0 d 286 214 L (i_getR 9 2 217 L st h) := go_eq gd_P0 d 286 214 L st h
theorem x286_217 (d : Nat) (L st : List Value) (h : gd_H) : go gd_P0 d 286 217 L st h = gs gd_P0 d 286 217 L (i_dup 218 L st h) := go_eq gd_P0 d 286 217 L st h
theorem x286_218 (d : Nat) (L st : List Value) (h : gd_H) : go gd_P0 d 286 218 L st h = gs gd_P0 d 286 218 L (i_getI 6 7 221 L st h) := go_eq gd_P0 d 286 218 L st h
theorem x286_221 (d : Nat) (L st : List Value) (h : gd_H) : go gd_P0 d 286 221 L st h = gs gd_P0 d 286 221 L (i_psh (.int 1) 222 L st h) := go_eq gd_P0 d 286 221 L st h
theorem x286_222 (d : Nat) (L st : List Value) (h : gd_H) : go gd_P0 d 286 222 L st h = gs gd_P0 d 286 222 L (i_iadd 223 L st h) := go_eq gd_P0 d 286 222 L st h
theorem x286_223 (d : Nat) (L st : List Value) (h : gd_H) : go gd_P0 d 286 223 L st h = gs gd_P0 d 286 223 L (i_putI 6 7 226 L st h) := go_eq gd_P0 d 286 223 L st h
theorem x286_226 (d : Nat) (L st : List Value) (h : gd_H) : go gd_P0 d 286 226 L st h = gs gd_P0 d 286 226 L (i_goto 269 L st h) := go_eq gd_P0 d 286 226 L st h
theorem x286_229 (d : Nat) (L st : List Value) (h : gd_H) : go gd_P0 d 286 229 L st h = gs gd_P0 d 286 229 L (i_ald 0 230 L st h) := go_eq gd_P0 d 286 229 L st h
theorem x286_230 (d : Nat) (L st : List Value) (h : gd_H) : go gd_P0 d 286 230 L st h = gs gd_P0 d 286 230 L (i_cV 288 0 9 233 L st h) := go_eq gd_P0 d 286 230 L st h
theorem x286_233 (d : Nat) (L st : List Value) (h : gd_H) : go gd_P0 d 286 233 L st h = gs gd_P0 d 286 233 L (i_msk [true, false, false, false] (i_goto 269) L st h) := go_eq gd_P0 d 286 233 L st h
theorem x286_236 (d : Nat) (L st : List Value) (h : gd_H) : go gd_P0 d 286 236 L st h = gs gd_P0 d 286 236 L (i_ald 0 237 L st h) := go_eq gd_P0 d 286 236 L st h
theorem x286_237 (d : Nat) (L st : List Value) (h : gd_H) : go gd_P0 d 286 237 L st h = gs gd_P0 d 286 237 L (i_getR 9 1 240 L st h) := go_eq gd_P0 d 286 237 L st h
theorem x286_240 (d : Nat) (L st : List Value) (h : gd_H) : go gd_P0 d 286 240 L st h = gs gd_P0 d 286 240 L (i_psh (.int 0) 241 L st h) := go_eq gd_P0 d 286 240 L st h
theorem x286_241 (d : Nat) (L st : List Value) (h : gd_H) : go gd_P0 d 286 241 L st h = gs gd_P0 d 286 241 L (i_psh (.int 11) 243 L st h) := go_eq gd_P0 d 286 241 L st h
theorem x286_243 (d : Nat) (L st : List Value) (h : gd_H) : go gd_P0 d 286 243 L st h = gs gd_P0 d 286 243 L (i_cV 104 2 10 246 L st h) := go_eq gd_P0 d 286 243 L st h
theorem x286_246 (d : Nat) (L st : List Value) (h : gd_H) : go gd_P0 d 286 246 L st h = gs gd_P0 d 286 246 L (i_msk [true, false, false, false] (i_ist 3 247) L st h) := go_eq gd_P0 d 286 246 L st h
theorem x286_247 (d : Nat) (L st : List Value) (h : gd_H) : go gd_P0 d 286 247 L st h = gs gd_P0 d 286 247 L (i_ald 0 248 L st h) := go_eq gd_P0 d 286 247 L st h
theorem x286_248 (d : Nat) (L st : List Value) (h : gd_H) : go gd_P0 d 286 248 L st h = gs gd_P0 d 286 248 L (i_getR 9 2 251 L st h) := go_eq gd_P0 d 286 248 L st h
theorem x286_251 (d : Nat) (L st : List Value) (h : gd_H) : go gd_P0 d 286 251 L st h = gs gd_P0 d 286 251 L (i_getR 6 5 254 L st h) := go_eq gd_P0 d 286 251 L st h
theorem x286_254 (d : Nat) (L st : List Value) (h : gd_H) : go gd_P0 d 286 254 L st h = gs gd_P0 d 286 254 L (i_ild 3 255 L st h) := go_eq gd_P0 d 286 254 L st h
theorem x286_255 (d : Nat) (L st : List Value) (h : gd_H) : go gd_P0 d 286 255 L st h = gs gd_P0 d 286 255 L (i_ald 0 256 L st h) := go_eq gd_P0 d 286 255 L st h
theorem x286_256 (d : Nat) (L st : List Value) (h : gd_H) : go gd_P0 d 286 256 L st h = gs gd_P0 d 286 256 L (i_getR 9 1 259 L st h) := go_eq gd_P0 d 286 256 L st h
theorem x286_259 (d : Nat) (L st : List Value) (h : gd_H) : go gd_P0 d 286 259 L st h = gs gd_P0 d 286 259 L (i_psh (.int 0) 260 L st h) := go_eq gd_P0 d 286 259 L st h
theorem x286_260 (d : Nat) (L st : List Value) (h : gd_H) : go gd_P0 d 286 260 L st h = gs gd_P0 d 286 260 L (i_psh (.int 9) 262 L st h) := go_eq gd_P0 d 286 260 L st h
theorem x286_262 (d : Nat) (L st : List Value) (h : gd_H) : go gd_P0 d 286 262 L st h = gs gd_P0 d 286 262 L (i_cV 104 2 10 265 L st h) := go_eq gd_P0 d 286 262 L st h
theorem x286_265 (d : Nat) (L st : List Value) (h : gd_H) : go gd_P0 d 286 265 L st h = gs gd_P0 d 286 265 L (i_msk [true, false, false, false] (i_astI 266) L st h) := go_eq gd_P0 d 286 265 L st h
theorem x286_266 (d : Nat) (L st : List Value) (h : gd_H) : go gd_P0 d 286 266 L st h = gs gd_P0 d 286 266 L (i_goto 269 L st h) := go_eq gd_P0 d 286 266 L st h
theorem x286_269 (d : Nat) (L st : List Value) (h : gd_H) : go gd_P0 d 286 269 L st h = gs gd_P0 d 286 269 L (i_msk [true, false, false, false] (i_ald 0 270) L st h) := go_eq gd_P0 d 286 269 L st h
theorem x286_270 (d : Nat) (L st : List Value) (h : gd_H) : go gd_P0 d 286 270 L st h = gs gd_P0 d 286 270 L (i_getR 9 1 273 L st h) := go_eq gd_P0 d 286 270 L st h
theorem x286_273 (d : Nat) (L st : List Value) (h : gd_H) : go gd_P0 d 286 273 L st h = gs gd_P0 d 286 273 L (i_psh (.int 59) 275 L st h) := go_eq gd_P0 d 286 273 L st h
theorem x286_275 (d : Nat) (L st : List Value) (h : gd_H) : go gd_P0 d 286 275 L st h = gs gd_P0 d 286 275 L (i_cV 106 1 10 278 L st h) := go_eq gd_P0 d 286 275 L st h
theorem x286_278 (d : Nat) (L st : List Value) (h : gd_H) : go gd_P0 d 286 278 L st h = gs gd_P0 d 286 278 L (i_msk [false, false, false, false] (i_ret) L st h) := go_eq gd_P0 d 286 278 L st h
theorem s286_0 (d : Nat) (h : gd_H) (v0 : Nat) : go gd_P0 d 286 0 [.ref v0, .null, .null, .null] [] h =
    if gT h v0 = 9 then if gT h (gR h v0 1) = 10 then gc gd_P0 d 286 4 7 [.ref v0, .null, .null, .null] [] (run gd_P0 d 99 [.ref (gR h v0 1)] h) else none else none :=
  (x286_0 ..).trans ((x286_1 ..).trans ((gs_if ..).trans (ic9 ((x286_4 ..).trans ((gs_if ..).trans ((ia9 (by simp)).trans (ic9 rfl rfl)))) rfl)))
theorem s286_7 (d : Nat) (h : gd_H) (v0 : Nat) (w1 : Value) (w2 : Value) (w3 : Value) (z0 : Int32) : go gd_P0 d 286 7 [.ref v0, w1, w2, w3] [.int z0] h =
    if gT h v0 = 9 then if gT h v0 = 9 then if gT h (gR h v0 1) = 10 then gc gd_P0 d 286 16 19 [.ref v0, .int z0, .null, .null] [] (run gd_P0 d 100 [.ref (gR h v0 1), .ref (gR h v0 0)] h) else none else none else none :=
  (x286_7 ..).trans ((x286_8 ..).trans ((x286_9 ..).trans ((gs_if ..).trans (ic9 ((x286_12 ..).trans ((x286_13 ..).trans ((gs_if ..).trans (ic9 ((x286_16 ..).trans ((gs_if ..).trans ((ia9 (by simp)).trans (ic9 rfl rfl)))) rfl)))) rfl))))
theorem s286_19 (d : Nat) (h : gd_H) (v0 : Nat) (v1 : Int32) (w2 : Value) (w3 : Value) (z0 : Int32) : go gd_P0 d 286 19 [.ref v0, .int v1, w2, w3] [.int z0] h =
    if z0 = (-1) then if gT (nw h 11 0 8) (gS h) = 11 then gc gd_P0 d 286 31 34 [.ref v0, .int v1, .int z0, .null] [.ref (gS h)] (run gd_P0 d 111 [.ref (gS h), .int 1, .int v1] (nw h 11 0 8)) else none else if gT h v0 = 9 then gc gd_P0 d 286 37 40 [.ref v0, .int v1, .int z0, .null] [] (run gd_P0 d 287 [.ref v0, .int z0] h) else none :=
  (x286_19 ..).trans ((x286_20 ..).trans ((x286_21 ..).trans ((x286_22 ..).trans ((gs_if ..).trans (ic9 ((x286_25 ..).trans ((x286_28 ..).trans ((x286_29 ..).trans ((x286_30 ..).trans ((x286_31 ..).trans ((gs_if ..).trans ((ia9 (by simp)).trans (ic9 rfl rfl)))))))) ((x286_35 ..).trans ((x286_36 ..).trans ((x286_37 ..).trans ((gs_if ..).trans ((ia9 (by simp)).trans (ic9 rfl rfl)))))))))))
theorem s286_34 (d : Nat) (h : gd_H) (w0 : Value) (w1 : Value) (w2 : Value) (w3 : Value) (z0 : Nat) : go gd_P0 d 286 34 [w0, w1, w2, w3] [.ref z0] h =
    if 4 ≤ z0 then gx gd_P0 d 286 34 [w0, w1, w2, w3] z0 h else none :=
  (x286_34 ..).trans ((gs_if ..).trans (ic9 rfl rfl))
theorem s286_40 (d : Nat) (h : gd_H) (v0 : Nat) (v1 : Int32) (v2 : Int32) (w3 : Value) (z0 : Int32) : go gd_P0 d 286 40 [.ref v0, .int v1, .int v2, w3] [.int z0] h =
    if z0 = 0 then if gT h v0 = 9 then if gT h (gR h v0 1) = 10 then gc gd_P0 d 286 57 60 [.ref v0, .int v1, .int v2, .null] [] (run gd_P0 d 103 [.ref (gR h v0 1)] h) else none else none else if gT (nw h 11 0 8) (gS h) = 11 then gc gd_P0 d 286 49 52 [.ref v0, .int v1, .int v2, .null] [.ref (gS h)] (run gd_P0 d 111 [.ref (gS h), .int 3, .int v1] (nw h 11 0 8)) else none :=
  (x286_40 ..).trans ((gs_nif ..).trans (ic9 ((x286_53 ..).trans ((x286_54 ..).trans ((gs_if ..).trans (ic9 ((x286_57 ..).trans ((gs_if ..).trans ((ia9 (by simp)).trans (ic9 rfl rfl)))) rfl)))) ((x286_43 ..).trans ((x286_46 ..).trans ((x286_47 ..).trans ((x286_48 ..).trans ((x286_49 ..).trans ((gs_if ..).trans ((ia9 (by simp)).trans (ic9 rfl rfl))))))))))
theorem s286_52 (d : Nat) (h : gd_H) (w0 : Value) (w1 : Value) (w2 : Value) (w3 : Value) (z0 : Nat) : go gd_P0 d 286 52 [w0, w1, w2, w3] [.ref z0] h =
    if 4 ≤ z0 then gx gd_P0 d 286 52 [w0, w1, w2, w3] z0 h else none :=
  (x286_52 ..).trans ((gs_if ..).trans (ic9 rfl rfl))
theorem s286_60 (d : Nat) (h : gd_H) (v0 : Nat) (w1 : Value) (v2 : Int32) (w3 : Value) : go gd_P0 d 286 60 [.ref v0, w1, .int v2, w3] [] h =
    if gT h v0 = 9 then if gT h v0 = 9 then if v2 = 0 then if gT h v0 = 9 then if gT h (gR h v0 2) = 6 then if gT h v0 = 9 then if gT h (gR h v0 2) = 6 then if gT h v0 = 9 then if gT h (gR h v0 1) = 10 then gc gd_P0 d 286 117 120 [.ref v0, .null, .int v2, .null] [.int ((up1 (gI h) v0 3 ((gI h v0 3) + 1)) (gR h v0 2) 6), .ref (gR h (gR h v0 2) 0)] (run gd_P0 d 104 [.ref (gR h v0 1), .int 1, .int 60] (wI h (up1 (gI h) v0 3 ((gI h v0 3) + 1)))) else none else none else none else none else none else none else if v2 = 1 then if gT h v0 = 9 then if gT h (gR h v0 2) = 6 then if gT h v0 = 9 then if gT h (gR h v0 2) = 6 then if gT h v0 = 9 then if gT h (gR h v0 1) = 10 then gc gd_P0 d 286 184 187 [.ref v0, .null, .int v2, .null] [.int ((up1 (gI h) v0 3 ((gI h v0 3) + 1)) (gR h v0 2) 7), .ref (gR h (gR h v0 2) 2)] (run gd_P0 d 104 [.ref (gR h v0 1), .int 1, .int 200] (wI h (up1 (gI h) v0 3 ((gI h v0 3) + 1)))) else none else none else none else none else none else none else if v2 = 2 then if gT h v0 = 9 then gc gd_P0 d 286 230 233 [.ref v0, .null, .int v2, .null] [] (run gd_P0 d 288 [.ref v0] (wI h (up1 (gI h) v0 3 ((gI h v0 3) + 1)))) else none else if gT h v0 = 9 then if gT h (gR h v0 1) = 10 then gc gd_P0 d 286 243 246 [.ref v0, .null, .int v2, .null] [] (run gd_P0 d 104 [.ref (gR h v0 1), .int 0, .int 11] (wI h (up1 (gI h) v0 3 ((gI h v0 3) + 1)))) else none else none else none else none :=
  (x286_60 ..).trans ((x286_61 ..).trans ((x286_62 ..).trans ((gs_if ..).trans (ic9 ((x286_65 ..).trans ((x286_66 ..).trans ((x286_67 ..).trans ((gs_if ..).trans (ic9 ((x286_70 ..).trans ((x286_71 ..).trans ((go_if ..).trans (ic9 ((x286_96 ..).trans ((x286_97 ..).trans ((gs_if ..).trans (ic9 ((x286_100 ..).trans ((gs_if ..).trans (ic9 ((x286_103 ..).trans ((x286_104 ..).trans ((gs_if ..).trans (ic9 ((x286_107 ..).trans ((gs_if ..).trans (ic9 ((x286_110 ..).trans ((x286_111 ..).trans ((gs_if ..).trans (ic9 ((x286_114 ..).trans ((x286_115 ..).trans ((x286_117 ..).trans ((gs_if ..).trans ((ia9 (by simp)).trans (ic9 rfl rfl)))))) rfl)))) rfl))) rfl)))) rfl))) rfl)))) ((go_if ..).trans (ic9 ((x286_162 ..).trans ((x286_163 ..).trans ((gs_if ..).trans (ic9 ((x286_166 ..).trans ((gs_if ..).trans (ic9 ((x286_169 ..).trans ((x286_170 ..).trans ((gs_if ..).trans (ic9 ((x286_173 ..).trans ((gs_if ..).trans (ic9 ((x286_176 ..).trans ((x286_177 ..).trans ((gs_if ..).trans (ic9 ((x286_180 ..).trans ((x286_181 ..).trans ((x286_184 ..).trans ((gs_if ..).trans ((ia9 (by simp)).trans (ic9 rfl rfl)))))) rfl)))) rfl))) rfl)))) rfl))) rfl)))) ((go_if ..).trans (ic9 ((x286_229 ..).trans ((x286_230 ..).trans ((gs_if ..).trans ((ia9 (by simp)).trans (ic9 rfl rfl))))) ((x286_236 ..).trans ((x286_237 ..).trans ((gs_if ..).trans (ic9 ((x286_240 ..).trans ((x286_241 ..).trans ((x286_243 ..).trans ((gs_if ..).trans ((ia9 (by simp)).trans (ic9 rfl rfl)))))) rfl)))))))))))) rfl))))) rfl))))
theorem s286_120 (d : Nat) (h : gd_H) (v0 : Nat) (w1 : Value) (w2 : Value) (w3 : Value) (z0 : Int32) (z1 : Int32) (z2 : Nat) : go gd_P0 d 286 120 [.ref v0, w1, w2, w3] [.int z0, .int z1, .ref z2] h =
    if gT h z2 = 31 ∧ ¬ (z1 < 0 ∨ gL h z2 ≤ Int32.toNatClampNeg z1) then if gT h v0 = 9 then if gT h (gR h v0 2) = 6 then if gT h v0 = 9 then if gT h (gR h v0 2) = 6 then if gT h v0 = 9 then if gT h (gR h v0 1) = 10 then gc gd_P0 d 286 142 145 [.ref v0, .null, .null, .null] [.int ((up1 (gI h) z2 (Int32.toNatClampNeg z1) z0) (gR h v0 2) 6), .ref (gR h (gR h v0 2) 1)] (run gd_P0 d 104 [.ref (gR h v0 1), .int 0, .int 9] (wI h (up1 (gI h) z2 (Int32.toNatClampNeg z1) z0))) else none else none else none else none else none else none else none :=
  (x286_120 ..).trans ((gs_nif ..).trans (ic9 ((x286_121 ..).trans ((x286_122 ..).trans ((gs_if ..).trans (ic9 ((x286_125 ..).trans ((gs_if ..).trans (ic9 ((x286_128 ..).trans ((x286_129 ..).trans ((gs_if ..).trans (ic9 ((x286_132 ..).trans ((gs_if ..).trans (ic9 ((x286_135 ..).trans ((x286_136 ..).trans ((gs_if ..).trans (ic9 ((x286_139 ..).trans ((x286_140 ..).trans ((x286_142 ..).trans ((gs_if ..).trans ((ia9 (by simp)).trans (ic9 rfl rfl)))))) rfl)))) rfl))) rfl)))) rfl))) rfl)))) rfl))
theorem s286_145 (d : Nat) (h : gd_H) (v0 : Nat) (w1 : Value) (w2 : Value) (w3 : Value) (z0 : Int32) (z1 : Int32) (z2 : Nat) : go gd_P0 d 286 145 [.ref v0, w1, w2, w3] [.int z0, .int z1, .ref z2] h =
    if gT h z2 = 31 ∧ ¬ (z1 < 0 ∨ gL h z2 ≤ Int32.toNatClampNeg z1) then if gT h v0 = 9 then if gT h (gR h v0 2) = 6 then if gT h (gR h v0 2) = 6 then go gd_P0 d 286 269 [.ref v0, .null, .null, .null] [] (wI h (up1 (up1 (gI h) z2 (Int32.toNatClampNeg z1) z0) (gR h v0 2) 6 (((up1 (gI h) z2 (Int32.toNatClampNeg z1) z0) (gR h v0 2) 6) + 1))) else none else none else none else none :=
  (x286_145 ..).trans ((gs_nif ..).trans (ic9 ((x286_146 ..).trans ((x286_147 ..).trans ((gs_if ..).trans (ic9 ((x286_150 ..).trans ((x286_151 ..).trans ((gs_if ..).trans (ic9 ((x286_154 ..).trans ((x286_155 ..).trans ((x286_156 ..).trans ((gs_if ..).trans (ic9 ((x286_159 ..)) rfl))))) rfl)))) rfl)))) rfl))
theorem s286_187 (d : Nat) (h : gd_H) (v0 : Nat) (w1 : Value) (w2 : Value) (w3 : Value) (z0 : Int32) (z1 : Int32) (z2 : Nat) : go gd_P0 d 286 187 [.ref v0, w1, w2, w3] [.int z0, .int z1, .ref z2] h =
    if gT h z2 = 31 ∧ ¬ (z1 < 0 ∨ gL h z2 ≤ Int32.toNatClampNeg z1) then if gT h v0 = 9 then if gT h (gR h v0 2) = 6 then if gT h v0 = 9 then if gT h (gR h v0 2) = 6 then if gT h v0 = 9 then if gT h (gR h v0 1) = 10 then gc gd_P0 d 286 209 212 [.ref v0, .null, .null, .null] [.int ((up1 (gI h) z2 (Int32.toNatClampNeg z1) z0) (gR h v0 2) 7), .ref (gR h (gR h v0 2) 3)] (run gd_P0 d 104 [.ref (gR h v0 1), .int 0, .int 9] (wI h (up1 (gI h) z2 (Int32.toNatClampNeg z1) z0))) else none else none else none else none else none else none else none :=
  (x286_187 ..).trans ((gs_nif ..).trans (ic9 ((x286_188 ..).trans ((x286_189 ..).trans ((gs_if ..).trans (ic9 ((x286_192 ..).trans ((gs_if ..).trans (ic9 ((x286_195 ..).trans ((x286_196 ..).trans ((gs_if ..).trans (ic9 ((x286_199 ..).trans ((gs_if ..).trans (ic9 ((x286_202 ..).trans ((x286_203 ..).trans ((gs_if ..).trans (ic9 ((x286_206 ..).trans ((x286_207 ..).trans ((x286_209 ..).trans ((gs_if ..).trans ((ia9 (by simp)).trans (ic9 rfl rfl)))))) rfl)))) rfl))) rfl)))) rfl))) rfl)))) rfl))
theorem s286_212 (d : Nat) (h : gd_H) (v0 : Nat) (w1 : Value) (w2 : Value) (w3 : Value) (z0 : Int32) (z1 : Int32) (z2 : Nat) : go gd_P0 d 286 212 [.ref v0, w1, w2, w3] [.int z0, .int z1, .ref z2] h =
    if gT h z2 = 31 ∧ ¬ (z1 < 0 ∨ gL h z2 ≤ Int32.toNatClampNeg z1) then if gT h v0 = 9 then if gT h (gR h v0 2) = 6 then if gT h (gR h v0 2) = 6 then go gd_P0 d 286 269 [.ref v0, .null, .null, .null] [] (wI h (up1 (up1 (gI h) z2 (Int32.toNatClampNeg z1) z0) (gR h v0 2) 7 (((up1 (gI h) z2 (Int32.toNatClampNeg z1) z0) (gR h v0 2) 7) + 1))) else none else none else none else none :=
  (x286_212 ..).trans ((gs_nif ..).trans (ic9 ((x286_213 ..).trans ((x286_214 ..).trans ((gs_if ..).trans (ic9 ((x286_217 ..).trans ((x286_218 ..).trans ((gs_if ..).trans (ic9 ((x286_221 ..).trans ((x286_222 ..).trans ((x286_223 ..).trans ((gs_if ..).trans (ic9 ((x286_226 ..)) rfl))))) rfl)))) rfl)))) rfl))
theorem s286_233 (d : Nat) (h : gd_H) (v0 : Nat) (w1 : Value) (w2 : Value) (w3 : Value) : go gd_P0 d 286 233 [.ref v0, w1, w2, w3] [] h =
    go gd_P0 d 286 269 [.ref v0, .null, .null, .null] [] h :=
  (x286_233 ..)
theorem s286_246 (d : Nat) (h : gd_H) (v0 : Nat) (w1 : Value) (w2 : Value) (w3 : Value) (z0 : Int32) : go gd_P0 d 286 246 [.ref v0, w1, w2, w3] [.int z0] h =
    if gT h v0 = 9 then if gT h (gR h v0 2) = 6 then if gT h v0 = 9 then if gT h (gR h v0 1) = 10 then gc gd_P0 d 286 262 265 [.ref v0, .null, .null, .int z0] [.int z0, .ref (gR h (gR h v0 2) 5)] (run gd_P0 d 104 [.ref (gR h v0 1), .int 0, .int 9] h) else none else none else none else none :=
  (x286_246 ..).trans ((x286_247 ..).trans ((x286_248 ..).trans ((gs_if ..).trans (ic9 ((x286_251 ..).trans ((gs_if ..).trans (ic9 ((x286_254 ..).trans ((x286_255 ..).trans ((x286_256 ..).trans ((gs_if ..).trans (ic9 ((x286_259 ..).trans ((x286_260 ..).trans ((x286_262 ..).trans ((gs_if ..).trans ((ia9 (by simp)).trans (ic9 rfl rfl)))))) rfl))))) rfl))) rfl))))
theorem s286_265 (d : Nat) (h : gd_H) (v0 : Nat) (w1 : Value) (w2 : Value) (w3 : Value) (z0 : Int32) (z1 : Int32) (z2 : Nat) : go gd_P0 d 286 265 [.ref v0, w1, w2, w3] [.int z0, .int z1, .ref z2] h =
    if gT h z2 = 31 ∧ ¬ (z1 < 0 ∨ gL h z2 ≤ Int32.toNatClampNeg z1) then go gd_P0 d 286 269 [.ref v0, .null, .null, .null] [] (wI h (up1 (gI h) z2 (Int32.toNatClampNeg z1) z0)) else none :=
  (x286_265 ..).trans ((gs_nif ..).trans (ic9 ((x286_266 ..)) rfl))
theorem s286_269 (d : Nat) (h : gd_H) (v0 : Nat) (w1 : Value) (w2 : Value) (w3 : Value) : go gd_P0 d 286 269 [.ref v0, w1, w2, w3] [] h =
    if gT h v0 = 9 then if gT h (gR h v0 1) = 10 then gc gd_P0 d 286 275 278 [.ref v0, .null, .null, .null] [] (run gd_P0 d 106 [.ref (gR h v0 1), .int 59] h) else none else none :=
  (x286_269 ..).trans ((x286_270 ..).trans ((gs_if ..).trans (ic9 ((x286_273 ..).trans ((x286_275 ..).trans ((gs_if ..).trans ((ia9 (by simp)).trans (ic9 rfl rfl))))) rfl)))
theorem s286_278 (d : Nat) (h : gd_H) (w0 : Value) (w1 : Value) (w2 : Value) (w3 : Value) : go gd_P0 d 286 278 [w0, w1, w2, w3] [] h =
    some (.inl none, h) :=
  (x286_278 ..)
theorem r286 (d : Nat) (h : gd_H) (v0 : Nat) : run gd_P0 (d + 1) 286 [.ref v0] h = go gd_P0 d 286 0 [.ref v0, .null, .null, .null] [] h := run_succ gd_P0 d 286 [.ref v0] h (Nat.le_of_ble_eq_true rfl)
theorem x287_0 (d : Nat) (L st : List Value) (h : gd_H) : go gd_P0 d 287 0 L st h = gs gd_P0 d 287 0 L (i_ald 0 1 L st h) := go_eq gd_P0 d 287 0 L st h
theorem x287_1 (d : Nat) (L st : List Value) (h : gd_H) : go gd_P0 d 287 1 L st h = gs gd_P0 d 287 1 L (i_getI 9 3 4 L st h) := go_eq gd_P0 d 287 1 L st h
theorem x287_4 (d : Nat) (L st : List Value) (h : gd_H) : go gd_P0 d 287 4 L st h = gs gd_P0 d 287 4 L (i_psh (.int 60) 6 L st h) := go_eq gd_P0 d 287 4 L st h
theorem x287_6 (d : Nat) (L st : List Value) (h : gd_H) : go gd_P0 d 287 6 L st h = gs gd_P0 d 287 6 L (i_iceq 42 9 L st h) := go_eq gd_P0 d 287 6 L st h
theorem x287_9 (d : Nat) (L st : List Value) (h : gd_H) : go gd_P0 d 287 9 L st h = gs gd_P0 d 287 9 L (i_ild 1 10 L st h) := go_eq gd_P0 d 287 9 L st h
theorem x287_10 (d : Nat) (L st : List Value) (h : gd_H) : go gd_P0 d 287 10 L st h = gs gd_P0 d 287 10 L (i_ifne 25 13 L st h) := go_eq gd_P0 d 287 10 L st h
theorem x287_13 (d : Nat) (L st : List Value) (h : gd_H) : go gd_P0 d 287 13 L st h = gs gd_P0 d 287 13 L (i_ald 0 14 L st h) := go_eq gd_P0 d 287 13 L st h
theorem x287_14 (d : Nat) (L st : List Value) (h : gd_H) : go gd_P0 d 287 14 L st h = gs gd_P0 d 287 14 L (i_getR 9 2 17 L st h) := go_eq gd_P0 d 287 14 L st h
theorem x287_17 (d : Nat) (L st : List Value) (h : gd_H) : go gd_P0 d 287 17 L st h = gs gd_P0 d 287 17 L (i_getI 6 6 20 L st h) := go_eq gd_P0 d 287 17 L st h
theorem x287_20 (d : Nat) (L st : List Value) (h : gd_H) : go gd_P0 d 287 20 L st h = gs gd_P0 d 287 20 L (i_psh (.int 6) 22 L st h) := go_eq gd_P0 d 287 20 L st h
theorem x287_22 (d : Nat) (L st : List Value) (h : gd_H) : go gd_P0 d 287 22 L st h = gs gd_P0 d 287 22 L (i_iceq 42 25 L st h) := go_eq gd_P0 d 287 22 L st h
theorem x287_25 (d : Nat) (L st : List Value) (h : gd_H) : go gd_P0 d 287 25 L st h = gs gd_P0 d 287 25 L (i_msk [true, true] (i_ild 1 26) L st h) := go_eq gd_P0 d 287 25 L st h
theorem x287_26 (d : Nat) (L st : List Value) (h : gd_H) : go gd_P0 d 287 26 L st h = gs gd_P0 d 287 26 L (i_psh (.int 1) 27 L st h) := go_eq gd_P0 d 287 26 L st h
theorem x287_27 (d : Nat) (L st : List Value) (h : gd_H) : go gd_P0 d 287 27 L st h = gs gd_P0 d 287 27 L (i_icne 46 30 L st h) := go_eq gd_P0 d 287 27 L st h
theorem x287_30 (d : Nat) (L st : List Value) (h : gd_H) : go gd_P0 d 287 30 L st h = gs gd_P0 d 287 30 L (i_ald 0 31 L st h) := go_eq gd_P0 d 287 30 L st h
theorem x287_31 (d : Nat) (L st : List Value) (h : gd_H) : go gd_P0 d 287 31 L st h = gs gd_P0 d 287 31 L (i_getR 9 2 34 L st h) := go_eq gd_P0 d 287 31 L st h
theorem x287_34 (d : Nat) (L st : List Value) (h : gd_H) : go gd_P0 d 287 34 L st h = gs gd_P0 d 287 34 L (i_getI 6 7 37 L st h) := go_eq gd_P0 d 287 34 L st h
theorem x287_37 (d : Nat) (L st : List Value) (h : gd_H) : go gd_P0 d 287 37 L st h = gs gd_P0 d 287 37 L (i_psh (.int 7) 39 L st h) := go_eq gd_P0 d 287 37 L st h
theorem x287_39 (d : Nat) (L st : List Value) (h : gd_H) : go gd_P0 d 287 39 L st h = gs gd_P0 d 287 39 L (i_icne 46 42 L st h) := go_eq gd_P0 d 287 39 L st h
theorem x287_42 (d : Nat) (L st : List Value) (h : gd_H) : go gd_P0 d 287 42 L st h = gs gd_P0 d 287 42 L (i_msk [false, false] (i_psh (.int 1) 43) L st h) := go_eq gd_P0 d 287 42 L st h
theorem x287_43 (d : Nat) (L st : List Value) (h : gd_H) : go gd_P0 d 287 43 L st h = gs gd_P0 d 287 43 L (i_goto 47 L st h) := go_eq gd_P0 d 287 43 L st h
theorem x287_46 (d : Nat) (L st : List Value) (h : gd_H) : go gd_P0 d 287 46 L st h = gs gd_P0 d 287 46 L (i_msk [false, false] (i_psh (.int 0) 47) L st h) := go_eq gd_P0 d 287 46 L st h
theorem x287_47 (d : Nat) (L st : List Value) (h : gd_H) : go gd_P0 d 287 47 L st h = gs gd_P0 d 287 47 L (i_msk [false, false] (i_zret) L st h) := go_eq gd_P0 d 287 47 L st h
theorem s287_0 (d : Nat) (h : gd_H) (v0 : Nat) (v1 : Int32) : go gd_P0 d 287 0 [.ref v0, .int v1] [] h =
    if gT h v0 = 9 then if (gI h v0 3) = 60 then go gd_P0 d 287 42 [.ref v0, .int v1] [] h else if v1 = 0 then if gT h v0 = 9 then if gT h (gR h v0 2) = 6 then if (gI h (gR h v0 2) 6) = 6 then go gd_P0 d 287 42 [.ref v0, .int v1] [] h else go gd_P0 d 287 25 [.ref v0, .int v1] [] h else none else none else go gd_P0 d 287 25 [.ref v0, .int v1] [] h else none :=
  (x287_0 ..).trans ((x287_1 ..).trans ((gs_if ..).trans (ic9 ((x287_4 ..).trans ((x287_6 ..).trans ((gs_if ..).trans (ic9 (rfl) ((x287_9 ..).trans ((x287_10 ..).trans ((gs_if ..).trans (ic9 ((x287_13 ..).trans ((x287_14 ..).trans ((gs_if ..).trans (ic9 ((x287_17 ..).trans ((gs_if ..).trans (ic9 ((x287_20 ..).trans ((x287_22 ..).trans ((gs_if ..).trans (ic9 (rfl) (rfl))))) rfl))) rfl)))) (rfl))))))))) rfl)))
theorem s287_25 (d : Nat) (h : gd_H) (v0 : Nat) (v1 : Int32) : go gd_P0 d 287 25 [.ref v0, .int v1] [] h =
    if v1 = 1 then if gT h v0 = 9 then if gT h (gR h v0 2) = 6 then if (gI h (gR h v0 2) 7) = 7 then go gd_P0 d 287 42 [.ref v0, .int v1] [] h else go gd_P0 d 287 46 [.ref v0, .int v1] [] h else none else none else go gd_P0 d 287 46 [.ref v0, .int v1] [] h :=
  (x287_25 ..).trans ((x287_26 ..).trans ((x287_27 ..).trans ((gs_if ..).trans (ic9 ((x287_30 ..).trans ((x287_31 ..).trans ((gs_if ..).trans (ic9 ((x287_34 ..).trans ((gs_if ..).trans (ic9 ((x287_37 ..).trans ((x287_39 ..).trans ((gs_if ..).trans (ic9 (rfl) (rfl))))) rfl))) rfl)))) (rfl)))))
theorem s287_42 (d : Nat) (h : gd_H) (w0 : Value) (w1 : Value) : go gd_P0 d 287 42 [w0, w1] [] h =
    go gd_P0 d 287 47 [.null, .null] [.int 1] h :=
  (x287_42 ..).trans ((x287_43 ..))
theorem s287_46 (d : Nat) (h : gd_H) (w0 : Value) (w1 : Value) : go gd_P0 d 287 46 [w0, w1] [] h =
    go gd_P0 d 287 47 [.null, .null] [.int 0] h :=
  (x287_46 ..)
theorem s287_47 (d : Nat) (h : gd_H) (w0 : Value) (w1 : Value) (z0 : Int32) : go gd_P0 d 287 47 [w0, w1] [.int z0] h =
    if z0 = 0 ∨ z0 = 1 then some (.inl (some (.int z0)), h) else none :=
  (x287_47 ..).trans ((gs_nif ..).trans (ic9 rfl rfl))
theorem r287 (d : Nat) (h : gd_H) (v0 : Nat) (v1 : Int32) : run gd_P0 (d + 1) 287 [.ref v0, .int v1] h = go gd_P0 d 287 0 [.ref v0, .int v1] [] h := run_succ gd_P0 d 287 [.ref v0, .int v1] h (Nat.le_of_ble_eq_true rfl)
theorem x288_0 (d : Nat) (L st : List Value) (h : gd_H) : go gd_P0 d 288 0 L st h = gs gd_P0 d 288 0 L (i_ald 0 1 L st h) := go_eq gd_P0 d 288 0 L st h
theorem x288_1 (d : Nat) (L st : List Value) (h : gd_H) : go gd_P0 d 288 1 L st h = gs gd_P0 d 288 1 L (i_getR 9 1 4 L st h) := go_eq gd_P0 d 288 1 L st h
theorem x288_4 (d : Nat) (L st : List Value) (h : gd_H) : go gd_P0 d 288 4 L st h = gs gd_P0 d 288 4 L (i_psh (.int 0) 5 L st h) := go_eq gd_P0 d 288 4 L st h
theorem x288_5 (d : Nat) (L st : List Value) (h : gd_H) : go gd_P0 d 288 5 L st h = gs gd_P0 d 288 5 L (i_ald 0 6 L st h) := go_eq gd_P0 d 288 5 L st h
theorem x288_6 (d : Nat) (L st : List Value) (h : gd_H) : go gd_P0 d 288 6 L st h = gs gd_P0 d 288 6 L (i_getR 9 2 9 L st h) := go_eq gd_P0 d 288 6 L st h
theorem x288_9 (d : Nat) (L st : List Value) (h : gd_H) : go gd_P0 d 288 9 L st h = gs gd_P0 d 288 9 L (i_getI 6 7 12 L st h) := go_eq gd_P0 d 288 9 L st h
theorem x288_12 (d : Nat) (L st : List Value) (h : gd_H) : go gd_P0 d 288 12 L st h = gs gd_P0 d 288 12 L (i_psh (.int 1) 13 L st h) := go_eq gd_P0 d 288 12 L st h
theorem x288_13 (d : Nat) (L st : List Value) (h : gd_H) : go gd_P0 d 288 13 L st h = gs gd_P0 d 288 13 L (i_isub 14 L st h) := go_eq gd_P0 d 288 13 L st h
theorem x288_14 (d : Nat) (L st : List Value) (h : gd_H) : go gd_P0 d 288 14 L st h = gs gd_P0 d 288 14 L (i_cV 104 2 10 17 L st h) := go_eq gd_P0 d 288 14 L st h
theorem x288_17 (d : Nat) (L st : List Value) (h : gd_H) : go gd_P0 d 288 17 L st h = gs gd_P0 d 288 17 L (i_msk [true, false, false, false] (i_ist 1 18) L st h) := go_eq gd_P0 d 288 17 L st h
theorem x288_18 (d : Nat) (L st : List Value) (h : gd_H) : go gd_P0 d 288 18 L st h = gs gd_P0 d 288 18 L (i_ald 0 19 L st h) := go_eq gd_P0 d 288 18 L st h
theorem x288_19 (d : Nat) (L st : List Value) (h : gd_H) : go gd_P0 d 288 19 L st h = gs gd_P0 d 288 19 L (i_getR 9 1 22 L st h) := go_eq gd_P0 d 288 19 L st h
theorem x288_22 (d : Nat) (L st : List Value) (h : gd_H) : go gd_P0 d 288 22 L st h = gs gd_P0 d 288 22 L (i_cV 99 0 10 25 L st h) := go_eq gd_P0 d 288 22 L st h
theorem x288_25 (d : Nat) (L st : List Value) (h : gd_H) : go gd_P0 d 288 25 L st h = gs gd_P0 d 288 25 L (i_msk [true, true, false, false] (i_ist 2 26) L st h) := go_eq gd_P0 d 288 25 L st h
theorem x288_26 (d : Nat) (L st : List Value) (h : gd_H) : go gd_P0 d 288 26 L st h = gs gd_P0 d 288 26 L (i_ald 0 27 L st h) := go_eq gd_P0 d 288 26 L st h
theorem x288_27 (d : Nat) (L st : List Value) (h : gd_H) : go gd_P0 d 288 27 L st h = gs gd_P0 d 288 27 L (i_getR 9 1 30 L st h) := go_eq gd_P0 d 288 27 L st h
theorem x288_30 (d : Nat) (L st : List Value) (h : gd_H) : go gd_P0 d 288 30 L st h = gs gd_P0 d 288 30 L (i_psh (.int 0) 31 L st h) := go_eq gd_P0 d 288 30 L st h
theorem x288_31 (d : Nat) (L st : List Value) (h : gd_H) : go gd_P0 d 288 31 L st h = gs gd_P0 d 288 31 L (i_ald 0 32 L st h) := go_eq gd_P0 d 288 31 L st h
theorem x288_32 (d : Nat) (L st : List Value) (h : gd_H) : go gd_P0 d 288 32 L st h = gs gd_P0 d 288 32 L (i_getR 9 2 35 L st h) := go_eq gd_P0 d 288 32 L st h
theorem x288_35 (d : Nat) (L st : List Value) (h : gd_H) : go gd_P0 d 288 35 L st h = gs gd_P0 d 288 35 L (i_getI 6 7 38 L st h) := go_eq gd_P0 d 288 35 L st h
theorem x288_38 (d : Nat) (L st : List Value) (h : gd_H) : go gd_P0 d 288 38 L st h = gs gd_P0 d 288 38 L (i_psh (.int 1) 39 L st h) := go_eq gd_P0 d 288 38 L st h
theorem x288_39 (d : Nat) (L st : List Value) (h : gd_H) : go gd_P0 d 288 39 L st h = gs gd_P0 d 288 39 L (i_isub 40 L st h) := go_eq gd_P0 d 288 39 L st h
theorem x288_40 (d : Nat) (L st : List Value) (h : gd_H) : go gd_P0 d 288 40 L st h = gs gd_P0 d 288 40 L (i_cV 104 2 10 43 L st h) := go_eq gd_P0 d 288 40 L st h
theorem x288_43 (d : Nat) (L st : List Value) (h : gd_H) : go gd_P0 d 288 43 L st h = gs gd_P0 d 288 43 L (i_msk [true, true, true, false] (i_ist 3 44) L st h) := go_eq gd_P0 d 288 43 L st h
theorem x288_44 (d : Nat) (L st : List Value) (h : gd_H) : go gd_P0 d 288 44 L st h = gs gd_P0 d 288 44 L (i_ild 1 45 L st h) := go_eq gd_P0 d 288 44 L st h
theorem x288_45 (d : Nat) (L st : List Value) (h : gd_H) : go gd_P0 d 288 45 L st h = gs gd_P0 d 288 45 L (i_ild 3 46 L st h) := go_eq gd_P0 d 288 45 L st h
theorem x288_46 (d : Nat) (L st : List Value) (h : gd_H) : go gd_P0 d 288 46 L st h = gs gd_P0 d 288 46 L (i_icne 59 49 L st h) := go_eq gd_P0 d 288 46 L st h
theorem x288_49 (d : Nat) (L st : List Value) (h : gd_H) : go gd_P0 d 288 49 L st h = gs gd_P0 d 288 49 L (i_new 11 8 52 L st h) := go_eq gd_P0 d 288 49 L st h
theorem x288_52 (d : Nat) (L st : List Value) (h : gd_H) : go gd_P0 d 288 52 L st h = gs gd_P0 d 288 52 L (i_dup 53 L st h) := go_eq gd_P0 d 288 52 L st h
theorem x288_53 (d : Nat) (L st : List Value) (h : gd_H) : go gd_P0 d 288 53 L st h = gs gd_P0 d 288 53 L (i_psh (.int 2) 54 L st h) := go_eq gd_P0 d 288 53 L st h
theorem x288_54 (d : Nat) (L st : List Value) (h : gd_H) : go gd_P0 d 288 54 L st h = gs gd_P0 d 288 54 L (i_ild 2 55 L st h) := go_eq gd_P0 d 288 54 L st h
theorem x288_55 (d : Nat) (L st : List Value) (h : gd_H) : go gd_P0 d 288 55 L st h = gs gd_P0 d 288 55 L (i_cV 111 2 11 58 L st h) := go_eq gd_P0 d 288 55 L st h
theorem x288_58 (d : Nat) (L st : List Value) (h : gd_H) : go gd_P0 d 288 58 L st h = gs gd_P0 d 288 58 L (i_thr L st h) := go_eq gd_P0 d 288 58 L st h
theorem x288_59 (d : Nat) (L st : List Value) (h : gd_H) : go gd_P0 d 288 59 L st h = gs gd_P0 d 288 59 L (i_ald 0 60 L st h) := go_eq gd_P0 d 288 59 L st h
theorem x288_60 (d : Nat) (L st : List Value) (h : gd_H) : go gd_P0 d 288 60 L st h = gs gd_P0 d 288 60 L (i_getR 9 2 63 L st h) := go_eq gd_P0 d 288 60 L st h
theorem x288_63 (d : Nat) (L st : List Value) (h : gd_H) : go gd_P0 d 288 63 L st h = gs gd_P0 d 288 63 L (i_getR 6 4 66 L st h) := go_eq gd_P0 d 288 63 L st h
theorem x288_66 (d : Nat) (L st : List Value) (h : gd_H) : go gd_P0 d 288 66 L st h = gs gd_P0 d 288 66 L (i_ild 1 67 L st h) := go_eq gd_P0 d 288 66 L st h
theorem x288_67 (d : Nat) (L st : List Value) (h : gd_H) : go gd_P0 d 288 67 L st h = gs gd_P0 d 288 67 L (i_dup2 68 L st h) := go_eq gd_P0 d 288 67 L st h
theorem x288_68 (d : Nat) (L st : List Value) (h : gd_H) : go gd_P0 d 288 68 L st h = gs gd_P0 d 288 68 L (i_aldI 31 69 L st h) := go_eq gd_P0 d 288 68 L st h
theorem x288_69 (d : Nat) (L st : List Value) (h : gd_H) : go gd_P0 d 288 69 L st h = gs gd_P0 d 288 69 L (i_psh (.int 1) 70 L st h) := go_eq gd_P0 d 288 69 L st h
theorem x288_70 (d : Nat) (L st : List Value) (h : gd_H) : go gd_P0 d 288 70 L st h = gs gd_P0 d 288 70 L (i_ild 3 71 L st h) := go_eq gd_P0 d 288 70 L st h
theorem x288_71 (d : Nat) (L st : List Value) (h : gd_H) : go gd_P0 d 288 71 L st h = gs gd_P0 d 288 71 L (i_ishl 72 L st h) := go_eq gd_P0 d 288 71 L st h
theorem x288_72 (d : Nat) (L st : List Value) (h : gd_H) : go gd_P0 d 288 72 L st h = gs gd_P0 d 288 72 L (i_ior 73 L st h) := go_eq gd_P0 d 288 72 L st h
theorem x288_73 (d : Nat) (L st : List Value) (h : gd_H) : go gd_P0 d 288 73 L st h = gs gd_P0 d 288 73 L (i_astI 74 L st h) := go_eq gd_P0 d 288 73 L st h
theorem x288_74 (d : Nat) (L st : List Value) (h : gd_H) : go gd_P0 d 288 74 L st h = gs gd_P0 d 288 74 L (i_ald 0 75 L st h) := go_eq gd_P0 d 288 74 L st h
theorem x288_75 (d : Nat) (L st : List Value) (h : gd_H) : go gd_P0 d 288 75 L st h = gs gd_P0 d 288 75 L (i_getR 9 2 78 L st h) := go_eq gd_P0 d 288 75 L st h
theorem x288_78 (d : Nat) (L st : List Value) (h : gd_H) : go gd_P0 d 288 78 L st h = gs gd_P0 d 288 78 L (i_getR 6 4 81 L st h) := go_eq gd_P0 d 288 78 L st h
theorem x288_81 (d : Nat) (L st : List Value) (h : gd_H) : go gd_P0 d 288 81 L st h = gs gd_P0 d 288 81 L (i_ild 3 82 L st h) := go_eq gd_P0 d 288 81 L st h
theorem x288_82 (d : Nat) (L st : List Value) (h : gd_H) : go gd_P0 d 288 82 L st h = gs gd_P0 d 288 82 L (i_dup2 83 L st h) := go_eq gd_P0 d 288 82 L st h
theorem x288_83 (d : Nat) (L st : List Value) (h : gd_H) : go gd_P0 d 288 83 L st h = gs gd_P0 d 288 83 L (i_aldI 31 84 L st h) := go_eq gd_P0 d 288 83 L st h
theorem x288_84 (d : Nat) (L st : List Value) (h : gd_H) : go gd_P0 d 288 84 L st h = gs gd_P0 d 288 84 L (i_psh (.int 1) 85 L st h) := go_eq gd_P0 d 288 84 L st h
theorem x288_85 (d : Nat) (L st : List Value) (h : gd_H) : go gd_P0 d 288 85 L st h = gs gd_P0 d 288 85 L (i_ild 1 86 L st h) := go_eq gd_P0 d 288 85 L st h
theorem x288_86 (d : Nat) (L st : List Value) (h : gd_H) : go gd_P0 d 288 86 L st h = gs gd_P0 d 288 86 L (i_ishl 87 L st h) := go_eq gd_P0 d 288 86 L st h
theorem x288_87 (d : Nat) (L st : List Value) (h : gd_H) : go gd_P0 d 288 87 L st h = gs gd_P0 d 288 87 L (i_ior 88 L st h) := go_eq gd_P0 d 288 87 L st h
theorem x288_88 (d : Nat) (L st : List Value) (h : gd_H) : go gd_P0 d 288 88 L st h = gs gd_P0 d 288 88 L (i_astI 89 L st h) := go_eq gd_P0 d 288 88 L st h
theorem x288_89 (d : Nat) (L st : List Value) (h : gd_H) : go gd_P0 d 288 89 L st h = gs gd_P0 d 288 89 L (i_ret L st h) := go_eq gd_P0 d 288 89 L st h
theorem s288_0 (d : Nat) (h : gd_H) (v0 : Nat) : go gd_P0 d 288 0 [.ref v0, .null, .null, .null] [] h =
    if gT h v0 = 9 then if gT h v0 = 9 then if gT h (gR h v0 2) = 6 then if gT h (gR h v0 1) = 10 then gc gd_P0 d 288 14 17 [.ref v0, .null, .null, .null] [] (run gd_P0 d 104 [.ref (gR h v0 1), .int 0, .int ((gI h (gR h v0 2) 7) - 1)] h) else none else none else none else none :=
  (x288_0 ..).trans ((x288_1 ..).trans ((gs_if ..).trans (ic9 ((x288_4 ..).trans ((x288_5 ..).trans ((x288_6 ..).trans ((gs_if ..).trans (ic9 ((x288_9 ..).trans ((gs_if ..).trans (ic9 ((x288_12 ..).trans ((x288_13 ..).trans ((x288_14 ..).trans ((gs_if ..).trans ((ia9 (by simp)).trans (ic9 rfl rfl)))))) rfl))) rfl))))) rfl)))
theorem s288_17 (d : Nat) (h : gd_H) (v0 : Nat) (w1 : Value) (w2 : Value) (w3 : Value) (z0 : Int32) : go gd_P0 d 288 17 [.ref v0, w1, w2, w3] [.int z0] h =
    if gT h v0 = 9 then if gT h (gR h v0 1) = 10 then gc gd_P0 d 288 22 25 [.ref v0, .int z0, .null, .null] [] (run gd_P0 d 99 [.ref (gR h v0 1)] h) else none else none :=
  (x288_17 ..).trans ((x288_18 ..).trans ((x288_19 ..).trans ((gs_if ..).trans (ic9 ((x288_22 ..).trans ((gs_if ..).trans ((ia9 (by simp)).trans (ic9 rfl rfl)))) rfl))))
theorem s288_25 (d : Nat) (h : gd_H) (v0 : Nat) (v1 : Int32) (w2 : Value) (w3 : Value) (z0 : Int32) : go gd_P0 d 288 25 [.ref v0, .int v1, w2, w3] [.int z0] h =
    if gT h v0 = 9 then if gT h v0 = 9 then if gT h (gR h v0 2) = 6 then if gT h (gR h v0 1) = 10 then gc gd_P0 d 288 40 43 [.ref v0, .int v1, .int z0, .null] [] (run gd_P0 d 104 [.ref (gR h v0 1), .int 0, .int ((gI h (gR h v0 2) 7) - 1)] h) else none else none else none else none :=
  (x288_25 ..).trans ((x288_26 ..).trans ((x288_27 ..).trans ((gs_if ..).trans (ic9 ((x288_30 ..).trans ((x288_31 ..).trans ((x288_32 ..).trans ((gs_if ..).trans (ic9 ((x288_35 ..).trans ((gs_if ..).trans (ic9 ((x288_38 ..).trans ((x288_39 ..).trans ((x288_40 ..).trans ((gs_if ..).trans ((ia9 (by simp)).trans (ic9 rfl rfl)))))) rfl))) rfl))))) rfl))))
theorem s288_43 (d : Nat) (h : gd_H) (v0 : Nat) (v1 : Int32) (v2 : Int32) (w3 : Value) (z0 : Int32) : go gd_P0 d 288 43 [.ref v0, .int v1, .int v2, w3] [.int z0] h =
    if v1 = z0 then if gT (nw h 11 0 8) (gS h) = 11 then gc gd_P0 d 288 55 58 [.ref v0, .int v1, .int v2, .int z0] [.ref (gS h)] (run gd_P0 d 111 [.ref (gS h), .int 2, .int v2] (nw h 11 0 8)) else none else if gT h v0 = 9 then if gT h (gR h v0 2) = 6 then if gT h (gR h (gR h v0 2) 4) = 31 ∧ ¬ (v1 < 0 ∨ gL h (gR h (gR h v0 2) 4) ≤ Int32.toNatClampNeg v1) then if gT h (gR h (gR h v0 2) 4) = 31 ∧ ¬ (v1 < 0 ∨ gL h (gR h (gR h v0 2) 4) ≤ Int32.toNatClampNeg v1) then if gT h v0 = 9 then if gT h (gR h v0 2) = 6 then if gT h (gR h (gR h v0 2) 4) = 31 ∧ ¬ (z0 < 0 ∨ gL h (gR h (gR h v0 2) 4) ≤ Int32.toNatClampNeg z0) then if gT h (gR h (gR h v0 2) 4) = 31 ∧ ¬ (z0 < 0 ∨ gL h (gR h (gR h v0 2) 4) ≤ Int32.toNatClampNeg z0) then some (.inl none, (wI h (up1 (up1 (gI h) (gR h (gR h v0 2) 4) (Int32.toNatClampNeg v1) ((gI h (gR h (gR h v0 2) 4) (Int32.toNatClampNeg v1)) ||| ((1 : Int32) <<< (z0 &&& 31)))) (gR h (gR h v0 2) 4) (Int32.toNatClampNeg z0) (((up1 (gI h) (gR h (gR h v0 2) 4) (Int32.toNatClampNeg v1) ((gI h (gR h (gR h v0 2) 4) (Int32.toNatClampNeg v1)) ||| ((1 : Int32) <<< (z0 &&& 31)))) (gR h (gR h v0 2) 4) (Int32.toNatClampNeg z0)) ||| ((1 : Int32) <<< (v1 &&& 31)))))) else none else none else none else none else none else none else none else none :=
  (x288_43 ..).trans ((x288_44 ..).trans ((x288_45 ..).trans ((x288_46 ..).trans ((gs_if ..).trans (ic9 ((x288_49 ..).trans ((x288_52 ..).trans ((x288_53 ..).trans ((x288_54 ..).trans ((x288_55 ..).trans ((gs_if ..).trans ((ia9 (by simp)).trans (ic9 rfl rfl)))))))) ((x288_59 ..).trans ((x288_60 ..).trans ((gs_if ..).trans (ic9 ((x288_63 ..).trans ((gs_if ..).trans (ic9 ((x288_66 ..).trans ((x288_67 ..).trans ((x288_68 ..).trans ((gs_if ..).trans (ic9 ((x288_69 ..).trans ((x288_70 ..).trans ((x288_71 ..).trans ((x288_72 ..).trans ((x288_73 ..).trans ((gs_if ..).trans (ic9 ((x288_74 ..).trans ((x288_75 ..).trans ((gs_if ..).trans (ic9 ((x288_78 ..).trans ((gs_if ..).trans (ic9 ((x288_81 ..).trans ((x288_82 ..).trans ((x288_83 ..).trans ((gs_if ..).trans (ic9 ((x288_84 ..).trans ((x288_85 ..).trans ((x288_86 ..).trans ((x288_87 ..).trans ((x288_88 ..).trans ((gs_if ..).trans (ic9 ((x288_89 ..)) rfl))))))) rfl))))) rfl))) rfl)))) rfl))))))) rfl))))) rfl))) rfl)))))))))
theorem s288_58 (d : Nat) (h : gd_H) (w0 : Value) (w1 : Value) (w2 : Value) (w3 : Value) (z0 : Nat) : go gd_P0 d 288 58 [w0, w1, w2, w3] [.ref z0] h =
    if 4 ≤ z0 then gx gd_P0 d 288 58 [w0, w1, w2, w3] z0 h else none :=
  (x288_58 ..).trans ((gs_if ..).trans (ic9 rfl rfl))
theorem r288 (d : Nat) (h : gd_H) (v0 : Nat) : run gd_P0 (d + 1) 288 [.ref v0] h = go gd_P0 d 288 0 [.ref v0, .null, .null, .null] [] h := run_succ gd_P0 d 288 [.ref v0] h (Nat.le_of_ble_eq_true rfl)

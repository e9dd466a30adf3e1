-- ===== PART A: goes FIRST, ahead of the names: the tables' words, and 'selects' of the private methods out of them =====
/-- a private method of a class that the tables say can be made, by its rows of tables_1 -/
def lw_okq (q : MethodName × Nat) : Prop := (q.1.cls ≠ "java/lang/invoke/MethodHandle" ∧ q.1.cls ≠ "java/lang/invoke/VarHandle") ∧ Cond.instantiable q.1.cls q.2 ∈ tables_1 ∧ Cond.privateMethod q.1 ∈ tables_1 ∧ Cond.instanceMethod q.1 ∈ tables_1
set_option maxRecDepth 100000
theorem lw_t1 {w : Cond} (h : w ∈ tables_1_1) : w ∈ tables_1 := List.mem_append_left _ h
theorem lw_t2 {w : Cond} (h : w ∈ tables_1_2) : w ∈ tables_1 := List.mem_append_right _ (List.mem_append_left _ h)
theorem lw_t3 {w : Cond} (h : w ∈ tables_1_3) : w ∈ tables_1 := List.mem_append_right _ (List.mem_append_right _ (List.mem_append_left _ h))
theorem lw_t4 {w : Cond} (h : w ∈ tables_1_4) : w ∈ tables_1 := List.mem_append_right _ (List.mem_append_right _ (List.mem_append_right _ (List.mem_append_left _ h)))
theorem lw_t5 {w : Cond} (h : w ∈ tables_1_5) : w ∈ tables_1 := List.mem_append_right _ (List.mem_append_right _ (List.mem_append_right _ (List.mem_append_right _ (List.mem_append_left _ h))))
theorem lw_t6 {w : Cond} (h : w ∈ tables_1_6) : w ∈ tables_1 := List.mem_append_right _ (List.mem_append_right _ (List.mem_append_right _ (List.mem_append_right _ (List.mem_append_right _ (List.mem_append_left _ h)))))
theorem lw_t7 {w : Cond} (h : w ∈ tables_1_7) : w ∈ tables_1 := List.mem_append_right _ (List.mem_append_right _ (List.mem_append_right _ (List.mem_append_right _ (List.mem_append_right _ (List.mem_append_right _ (List.mem_append_left _ h))))))
theorem lw_t8 {w : Cond} (h : w ∈ tables_1_8) : w ∈ tables_1 := List.mem_append_right _ (List.mem_append_right _ (List.mem_append_right _ (List.mem_append_right _ (List.mem_append_right _ (List.mem_append_right _ (List.mem_append_right _ (List.mem_append_left _ h)))))))
theorem lw_t9 {w : Cond} (h : w ∈ tables_1_9) : w ∈ tables_1 := List.mem_append_right _ (List.mem_append_right _ (List.mem_append_right _ (List.mem_append_right _ (List.mem_append_right _ (List.mem_append_right _ (List.mem_append_right _ (List.mem_append_right _ h)))))))
theorem lw_p0 : lw_okq (⟨"GrowingDoor$Mates", "tries", "(IZI)V"⟩, 4) := ⟨⟨by decide +kernel, by decide +kernel⟩, lw_t1 (List.mem_of_getElem? (i := 236) rfl), lw_t2 (List.mem_of_getElem? (i := 133) rfl), lw_t2 (List.mem_of_getElem? (i := 134) rfl)⟩
theorem lw_p1 : lw_okq (⟨"GrowingDoor", "climbs", "()I"⟩, 23) := ⟨⟨by decide +kernel, by decide +kernel⟩, lw_t1 (List.mem_of_getElem? (i := 36) rfl), lw_t2 (List.mem_of_getElem? (i := 149) rfl), lw_t2 (List.mem_of_getElem? (i := 150) rfl)⟩
theorem lw_p2 : lw_okq (⟨"GrowingDoor", "within", "(III)V"⟩, 23) := ⟨⟨by decide +kernel, by decide +kernel⟩, lw_t1 (List.mem_of_getElem? (i := 36) rfl), lw_t2 (List.mem_of_getElem? (i := 189) rfl), lw_t2 (List.mem_of_getElem? (i := 190) rfl)⟩
theorem lw_p3 : lw_okq (⟨"java/lang/Throwable", "fillInStackTrace", "(I)Ljava/lang/Throwable;"⟩, 6) := ⟨⟨by decide +kernel, by decide +kernel⟩, lw_t2 (List.mem_of_getElem? (i := 231) rfl), lw_t2 (List.mem_of_getElem? (i := 229) rfl), lw_t2 (List.mem_of_getElem? (i := 230) rfl)⟩
theorem lw_p4 : lw_okq (⟨"GrowingDoor", "reader", "(I)LGrowingDoor$Reader;"⟩, 23) := ⟨⟨by decide +kernel, by decide +kernel⟩, lw_t1 (List.mem_of_getElem? (i := 36) rfl), lw_t3 (List.mem_of_getElem? (i := 19) rfl), lw_t3 (List.mem_of_getElem? (i := 20) rfl)⟩
theorem lw_p5 : lw_okq (⟨"GrowingDoor$Reader", "byteAt", "(I)I"⟩, 4) := ⟨⟨by decide +kernel, by decide +kernel⟩, lw_t3 (List.mem_of_getElem? (i := 23) rfl), lw_t3 (List.mem_of_getElem? (i := 75) rfl), lw_t3 (List.mem_of_getElem? (i := 76) rfl)⟩
theorem lw_p6 : lw_okq (⟨"GrowingDoor$SchoolReader", "clause", "()V"⟩, 4) := ⟨⟨by decide +kernel, by decide +kernel⟩, lw_t3 (List.mem_of_getElem? (i := 17) rfl), lw_t3 (List.mem_of_getElem? (i := 79) rfl), lw_t3 (List.mem_of_getElem? (i := 80) rfl)⟩
theorem lw_p7 : lw_okq (⟨"GrowingDoor$SchoolReader", "isFull", "(I)Z"⟩, 4) := ⟨⟨by decide +kernel, by decide +kernel⟩, lw_t3 (List.mem_of_getElem? (i := 17) rfl), lw_t3 (List.mem_of_getElem? (i := 176) rfl), lw_t3 (List.mem_of_getElem? (i := 177) rfl)⟩
theorem lw_p8 : lw_okq (⟨"GrowingDoor$SchoolReader", "kin", "()V"⟩, 4) := ⟨⟨by decide +kernel, by decide +kernel⟩, lw_t3 (List.mem_of_getElem? (i := 17) rfl), lw_t3 (List.mem_of_getElem? (i := 197) rfl), lw_t3 (List.mem_of_getElem? (i := 198) rfl)⟩
theorem lw_p9 : lw_okq (⟨"GrowingDoor", "faulty", "(LGrowingDoor$Wrong;)I"⟩, 23) := ⟨⟨by decide +kernel, by decide +kernel⟩, lw_t1 (List.mem_of_getElem? (i := 36) rfl), lw_t3 (List.mem_of_getElem? (i := 205) rfl), lw_t3 (List.mem_of_getElem? (i := 206) rfl)⟩
theorem lw_p10 : lw_okq (⟨"GrowingDoor$LawReader", "sum", "()LGrowingDoor$Term;"⟩, 2) := ⟨⟨by decide +kernel, by decide +kernel⟩, lw_t3 (List.mem_of_getElem? (i := 217) rfl), lw_t4 (List.mem_of_getElem? (i := 3) rfl), lw_t4 (List.mem_of_getElem? (i := 4) rfl)⟩
theorem lw_p11 : lw_okq (⟨"GrowingDoor$LawReader", "product", "()LGrowingDoor$Term;"⟩, 2) := ⟨⟨by decide +kernel, by decide +kernel⟩, lw_t3 (List.mem_of_getElem? (i := 217) rfl), lw_t4 (List.mem_of_getElem? (i := 7) rfl), lw_t4 (List.mem_of_getElem? (i := 8) rfl)⟩
theorem lw_p12 : lw_okq (⟨"GrowingDoor$LawReader", "value", "()LGrowingDoor$Term;"⟩, 2) := ⟨⟨by decide +kernel, by decide +kernel⟩, lw_t3 (List.mem_of_getElem? (i := 217) rfl), lw_t4 (List.mem_of_getElem? (i := 11) rfl), lw_t4 (List.mem_of_getElem? (i := 12) rfl)⟩
theorem lw_p13 : lw_okq (⟨"GrowingDoor$WorkReader", "one", "()LGrowingDoor$Step;"⟩, 3) := ⟨⟨by decide +kernel, by decide +kernel⟩, lw_t4 (List.mem_of_getElem? (i := 82) rfl), lw_t4 (List.mem_of_getElem? (i := 133) rfl), lw_t4 (List.mem_of_getElem? (i := 134) rfl)⟩
theorem lw_p14 : lw_okq (⟨"GrowingDoor$WorkReader", "boy", "()I"⟩, 3) := ⟨⟨by decide +kernel, by decide +kernel⟩, lw_t4 (List.mem_of_getElem? (i := 82) rfl), lw_t4 (List.mem_of_getElem? (i := 145) rfl), lw_t4 (List.mem_of_getElem? (i := 146) rfl)⟩
theorem lw_p15 : lw_okq (⟨"GrowingDoor$WorkReader", "again", "()LGrowingDoor$Row;"⟩, 3) := ⟨⟨by decide +kernel, by decide +kernel⟩, lw_t4 (List.mem_of_getElem? (i := 82) rfl), lw_t4 (List.mem_of_getElem? (i := 184) rfl), lw_t4 (List.mem_of_getElem? (i := 185) rfl)⟩
def lw_privs_1 : List (MethodName × Nat) := [(⟨"GrowingDoor$Mates", "tries", "(IZI)V"⟩, 4), (⟨"GrowingDoor", "climbs", "()I"⟩, 23), (⟨"GrowingDoor", "within", "(III)V"⟩, 23), (⟨"java/lang/Throwable", "fillInStackTrace", "(I)Ljava/lang/Throwable;"⟩, 6), (⟨"GrowingDoor", "reader", "(I)LGrowingDoor$Reader;"⟩, 23), (⟨"GrowingDoor$Reader", "byteAt", "(I)I"⟩, 4), (⟨"GrowingDoor$SchoolReader", "clause", "()V"⟩, 4), (⟨"GrowingDoor$SchoolReader", "isFull", "(I)Z"⟩, 4), (⟨"GrowingDoor$SchoolReader", "kin", "()V"⟩, 4), (⟨"GrowingDoor", "faulty", "(LGrowingDoor$Wrong;)I"⟩, 23), (⟨"GrowingDoor$LawReader", "sum", "()LGrowingDoor$Term;"⟩, 2), (⟨"GrowingDoor$LawReader", "product", "()LGrowingDoor$Term;"⟩, 2), (⟨"GrowingDoor$LawReader", "value", "()LGrowingDoor$Term;"⟩, 2), (⟨"GrowingDoor$WorkReader", "one", "()LGrowingDoor$Step;"⟩, 3), (⟨"GrowingDoor$WorkReader", "boy", "()I"⟩, 3), (⟨"GrowingDoor$WorkReader", "again", "()LGrowingDoor$Row;"⟩, 3)]
theorem lw_r1 : ∀ q ∈ lw_privs_1, lw_okq q := List.forall_mem_cons.mpr ⟨lw_p0, List.forall_mem_cons.mpr ⟨lw_p1, List.forall_mem_cons.mpr ⟨lw_p2, List.forall_mem_cons.mpr ⟨lw_p3, List.forall_mem_cons.mpr ⟨lw_p4, List.forall_mem_cons.mpr ⟨lw_p5, List.forall_mem_cons.mpr ⟨lw_p6, List.forall_mem_cons.mpr ⟨lw_p7, List.forall_mem_cons.mpr ⟨lw_p8, List.forall_mem_cons.mpr ⟨lw_p9, List.forall_mem_cons.mpr ⟨lw_p10, List.forall_mem_cons.mpr ⟨lw_p11, List.forall_mem_cons.mpr ⟨lw_p12, List.forall_mem_cons.mpr ⟨lw_p13, List.forall_mem_cons.mpr ⟨lw_p14, List.forall_mem_cons.mpr ⟨lw_p15, fun _ h => absurd h List.not_mem_nil⟩⟩⟩⟩⟩⟩⟩⟩⟩⟩⟩⟩⟩⟩⟩⟩
theorem lw_p16 : lw_okq (⟨"GrowingDoor", "boardOf", "(I)V"⟩, 23) := ⟨⟨by decide +kernel, by decide +kernel⟩, lw_t1 (List.mem_of_getElem? (i := 36) rfl), lw_t5 (List.mem_of_getElem? (i := 148) rfl), lw_t5 (List.mem_of_getElem? (i := 149) rfl)⟩
theorem lw_p17 : lw_okq (⟨"GrowingDoor", "oneOf", "(II)V"⟩, 23) := ⟨⟨by decide +kernel, by decide +kernel⟩, lw_t1 (List.mem_of_getElem? (i := 36) rfl), lw_t5 (List.mem_of_getElem? (i := 152) rfl), lw_t5 (List.mem_of_getElem? (i := 153) rfl)⟩
theorem lw_p18 : lw_okq (⟨"GrowingDoor", "boyOf", "(I)V"⟩, 23) := ⟨⟨by decide +kernel, by decide +kernel⟩, lw_t1 (List.mem_of_getElem? (i := 36) rfl), lw_t5 (List.mem_of_getElem? (i := 179) rfl), lw_t5 (List.mem_of_getElem? (i := 180) rfl)⟩
theorem lw_p19 : lw_okq (⟨"GrowingDoor", "tried", "()LGrowingDoor$State;"⟩, 23) := ⟨⟨by decide +kernel, by decide +kernel⟩, lw_t1 (List.mem_of_getElem? (i := 36) rfl), lw_t5 (List.mem_of_getElem? (i := 209) rfl), lw_t5 (List.mem_of_getElem? (i := 210) rfl)⟩
theorem lw_p20 : lw_okq (⟨"GrowingDoor", "isGrown", "(III)Z"⟩, 23) := ⟨⟨by decide +kernel, by decide +kernel⟩, lw_t1 (List.mem_of_getElem? (i := 36) rfl), lw_t6 (List.mem_of_getElem? (i := 14) rfl), lw_t6 (List.mem_of_getElem? (i := 15) rfl)⟩
theorem lw_p21 : lw_okq (⟨"GrowingDoor", "isTold", "(I)Z"⟩, 23) := ⟨⟨by decide +kernel, by decide +kernel⟩, lw_t1 (List.mem_of_getElem? (i := 36) rfl), lw_t6 (List.mem_of_getElem? (i := 25) rfl), lw_t6 (List.mem_of_getElem? (i := 26) rfl)⟩
theorem lw_p22 : lw_okq (⟨"GrowingDoor", "worstAt", "(II)I"⟩, 23) := ⟨⟨by decide +kernel, by decide +kernel⟩, lw_t1 (List.mem_of_getElem? (i := 36) rfl), lw_t6 (List.mem_of_getElem? (i := 29) rfl), lw_t6 (List.mem_of_getElem? (i := 30) rfl)⟩
theorem lw_p23 : lw_okq (⟨"GrowingDoor", "givenBy", "(II)I"⟩, 23) := ⟨⟨by decide +kernel, by decide +kernel⟩, lw_t1 (List.mem_of_getElem? (i := 36) rfl), lw_t6 (List.mem_of_getElem? (i := 60) rfl), lw_t6 (List.mem_of_getElem? (i := 61) rfl)⟩
theorem lw_p24 : lw_okq (⟨"GrowingDoor", "decadeOf", "(II)V"⟩, 23) := ⟨⟨by decide +kernel, by decide +kernel⟩, lw_t1 (List.mem_of_getElem? (i := 36) rfl), lw_t6 (List.mem_of_getElem? (i := 125) rfl), lw_t6 (List.mem_of_getElem? (i := 126) rfl)⟩
theorem lw_p25 : lw_okq (⟨"GrowingDoor", "goes", "(III)LGrowingDoor$State;"⟩, 23) := ⟨⟨by decide +kernel, by decide +kernel⟩, lw_t1 (List.mem_of_getElem? (i := 36) rfl), lw_t6 (List.mem_of_getElem? (i := 129) rfl), lw_t6 (List.mem_of_getElem? (i := 130) rfl)⟩
theorem lw_p26 : lw_okq (⟨"GrowingDoor", "draw", "(I)I"⟩, 23) := ⟨⟨by decide +kernel, by decide +kernel⟩, lw_t1 (List.mem_of_getElem? (i := 36) rfl), lw_t6 (List.mem_of_getElem? (i := 133) rfl), lw_t6 (List.mem_of_getElem? (i := 134) rfl)⟩
theorem lw_p27 : lw_okq (⟨"GrowingDoorModel", "clears", "()V"⟩, 57) := ⟨⟨by decide +kernel, by decide +kernel⟩, lw_t6 (List.mem_of_getElem? (i := 152) rfl), lw_t6 (List.mem_of_getElem? (i := 158) rfl), lw_t6 (List.mem_of_getElem? (i := 159) rfl)⟩
theorem lw_p28 : lw_okq (⟨"GrowingDoorModel", "sets", "()V"⟩, 57) := ⟨⟨by decide +kernel, by decide +kernel⟩, lw_t6 (List.mem_of_getElem? (i := 152) rfl), lw_t6 (List.mem_of_getElem? (i := 162) rfl), lw_t6 (List.mem_of_getElem? (i := 163) rfl)⟩
theorem lw_p29 : lw_okq (⟨"GrowingDoorModel", "copies", "([I[II)V"⟩, 57) := ⟨⟨by decide +kernel, by decide +kernel⟩, lw_t6 (List.mem_of_getElem? (i := 152) rfl), lw_t6 (List.mem_of_getElem? (i := 166) rfl), lw_t6 (List.mem_of_getElem? (i := 167) rfl)⟩
theorem lw_p30 : lw_okq (⟨"GrowingDoorModel", "may", "(ZII)Z"⟩, 57) := ⟨⟨by decide +kernel, by decide +kernel⟩, lw_t6 (List.mem_of_getElem? (i := 152) rfl), lw_t7 (List.mem_of_getElem? (i := 115) rfl), lw_t7 (List.mem_of_getElem? (i := 116) rfl)⟩
theorem lw_p31 : lw_okq (⟨"GrowingDoorModel", "begins", "(I)V"⟩, 57) := ⟨⟨by decide +kernel, by decide +kernel⟩, lw_t6 (List.mem_of_getElem? (i := 152) rfl), lw_t7 (List.mem_of_getElem? (i := 119) rfl), lw_t7 (List.mem_of_getElem? (i := 120) rfl)⟩
def lw_privs_2 : List (MethodName × Nat) := [(⟨"GrowingDoor", "boardOf", "(I)V"⟩, 23), (⟨"GrowingDoor", "oneOf", "(II)V"⟩, 23), (⟨"GrowingDoor", "boyOf", "(I)V"⟩, 23), (⟨"GrowingDoor", "tried", "()LGrowingDoor$State;"⟩, 23), (⟨"GrowingDoor", "isGrown", "(III)Z"⟩, 23), (⟨"GrowingDoor", "isTold", "(I)Z"⟩, 23), (⟨"GrowingDoor", "worstAt", "(II)I"⟩, 23), (⟨"GrowingDoor", "givenBy", "(II)I"⟩, 23), (⟨"GrowingDoor", "decadeOf", "(II)V"⟩, 23), (⟨"GrowingDoor", "goes", "(III)LGrowingDoor$State;"⟩, 23), (⟨"GrowingDoor", "draw", "(I)I"⟩, 23), (⟨"GrowingDoorModel", "clears", "()V"⟩, 57), (⟨"GrowingDoorModel", "sets", "()V"⟩, 57), (⟨"GrowingDoorModel", "copies", "([I[II)V"⟩, 57), (⟨"GrowingDoorModel", "may", "(ZII)Z"⟩, 57), (⟨"GrowingDoorModel", "begins", "(I)V"⟩, 57)]
theorem lw_r2 : ∀ q ∈ lw_privs_2, lw_okq q := List.forall_mem_cons.mpr ⟨lw_p16, List.forall_mem_cons.mpr ⟨lw_p17, List.forall_mem_cons.mpr ⟨lw_p18, List.forall_mem_cons.mpr ⟨lw_p19, List.forall_mem_cons.mpr ⟨lw_p20, List.forall_mem_cons.mpr ⟨lw_p21, List.forall_mem_cons.mpr ⟨lw_p22, List.forall_mem_cons.mpr ⟨lw_p23, List.forall_mem_cons.mpr ⟨lw_p24, List.forall_mem_cons.mpr ⟨lw_p25, List.forall_mem_cons.mpr ⟨lw_p26, List.forall_mem_cons.mpr ⟨lw_p27, List.forall_mem_cons.mpr ⟨lw_p28, List.forall_mem_cons.mpr ⟨lw_p29, List.forall_mem_cons.mpr ⟨lw_p30, List.forall_mem_cons.mpr ⟨lw_p31, fun _ h => absurd h List.not_mem_nil⟩⟩⟩⟩⟩⟩⟩⟩⟩⟩⟩⟩⟩⟩⟩⟩
theorem lw_p32 : lw_okq (⟨"GrowingDoorModel", "fine", "()Z"⟩, 57) := ⟨⟨by decide +kernel, by decide +kernel⟩, lw_t6 (List.mem_of_getElem? (i := 152) rfl), lw_t7 (List.mem_of_getElem? (i := 123) rfl), lw_t7 (List.mem_of_getElem? (i := 124) rfl)⟩
theorem lw_p33 : lw_okq (⟨"GrowingDoorModel", "isMore", "()Z"⟩, 57) := ⟨⟨by decide +kernel, by decide +kernel⟩, lw_t6 (List.mem_of_getElem? (i := 152) rfl), lw_t7 (List.mem_of_getElem? (i := 127) rfl), lw_t7 (List.mem_of_getElem? (i := 128) rfl)⟩
theorem lw_p34 : lw_okq (⟨"GrowingDoorModel", "here", "()I"⟩, 57) := ⟨⟨by decide +kernel, by decide +kernel⟩, lw_t6 (List.mem_of_getElem? (i := 152) rfl), lw_t7 (List.mem_of_getElem? (i := 131) rfl), lw_t7 (List.mem_of_getElem? (i := 132) rfl)⟩
theorem lw_p35 : lw_okq (⟨"GrowingDoorModel", "word", "()I"⟩, 57) := ⟨⟨by decide +kernel, by decide +kernel⟩, lw_t6 (List.mem_of_getElem? (i := 152) rfl), lw_t7 (List.mem_of_getElem? (i := 135) rfl), lw_t7 (List.mem_of_getElem? (i := 136) rfl)⟩
theorem lw_p36 : lw_okq (⟨"GrowingDoorModel", "wrong", "(II)V"⟩, 57) := ⟨⟨by decide +kernel, by decide +kernel⟩, lw_t6 (List.mem_of_getElem? (i := 152) rfl), lw_t7 (List.mem_of_getElem? (i := 154) rfl), lw_t7 (List.mem_of_getElem? (i := 155) rfl)⟩
theorem lw_p37 : lw_okq (⟨"GrowingDoorModel", "pass", "()V"⟩, 57) := ⟨⟨by decide +kernel, by decide +kernel⟩, lw_t6 (List.mem_of_getElem? (i := 152) rfl), lw_t7 (List.mem_of_getElem? (i := 158) rfl), lw_t7 (List.mem_of_getElem? (i := 159) rfl)⟩
theorem lw_p38 : lw_okq (⟨"GrowingDoorModel", "readRow", "(I)V"⟩, 57) := ⟨⟨by decide +kernel, by decide +kernel⟩, lw_t6 (List.mem_of_getElem? (i := 152) rfl), lw_t7 (List.mem_of_getElem? (i := 162) rfl), lw_t7 (List.mem_of_getElem? (i := 163) rfl)⟩
theorem lw_p39 : lw_okq (⟨"GrowingDoorModel", "readNumber", "(II)I"⟩, 57) := ⟨⟨by decide +kernel, by decide +kernel⟩, lw_t6 (List.mem_of_getElem? (i := 152) rfl), lw_t7 (List.mem_of_getElem? (i := 166) rfl), lw_t7 (List.mem_of_getElem? (i := 167) rfl)⟩
theorem lw_p40 : lw_okq (⟨"GrowingDoorModel", "readKin", "()V"⟩, 57) := ⟨⟨by decide +kernel, by decide +kernel⟩, lw_t6 (List.mem_of_getElem? (i := 152) rfl), lw_t7 (List.mem_of_getElem? (i := 173) rfl), lw_t7 (List.mem_of_getElem? (i := 174) rfl)⟩
theorem lw_p41 : lw_okq (⟨"GrowingDoorModel", "sign", "(I)V"⟩, 57) := ⟨⟨by decide +kernel, by decide +kernel⟩, lw_t6 (List.mem_of_getElem? (i := 152) rfl), lw_t7 (List.mem_of_getElem? (i := 177) rfl), lw_t7 (List.mem_of_getElem? (i := 178) rfl)⟩
theorem lw_p42 : lw_okq (⟨"GrowingDoorModel", "result", "(I)I"⟩, 57) := ⟨⟨by decide +kernel, by decide +kernel⟩, lw_t6 (List.mem_of_getElem? (i := 152) rfl), lw_t7 (List.mem_of_getElem? (i := 181) rfl), lw_t7 (List.mem_of_getElem? (i := 182) rfl)⟩
theorem lw_p43 : lw_okq (⟨"GrowingDoorModel", "readSum", "()V"⟩, 57) := ⟨⟨by decide +kernel, by decide +kernel⟩, lw_t6 (List.mem_of_getElem? (i := 152) rfl), lw_t7 (List.mem_of_getElem? (i := 189) rfl), lw_t7 (List.mem_of_getElem? (i := 190) rfl)⟩
theorem lw_p44 : lw_okq (⟨"GrowingDoorModel", "readProduct", "()V"⟩, 57) := ⟨⟨by decide +kernel, by decide +kernel⟩, lw_t6 (List.mem_of_getElem? (i := 152) rfl), lw_t7 (List.mem_of_getElem? (i := 193) rfl), lw_t7 (List.mem_of_getElem? (i := 194) rfl)⟩
theorem lw_p45 : lw_okq (⟨"GrowingDoorModel", "readUnit", "()V"⟩, 57) := ⟨⟨by decide +kernel, by decide +kernel⟩, lw_t6 (List.mem_of_getElem? (i := 152) rfl), lw_t7 (List.mem_of_getElem? (i := 197) rfl), lw_t7 (List.mem_of_getElem? (i := 198) rfl)⟩
theorem lw_p46 : lw_okq (⟨"GrowingDoorModel", "opensOne", "(I)V"⟩, 57) := ⟨⟨by decide +kernel, by decide +kernel⟩, lw_t6 (List.mem_of_getElem? (i := 152) rfl), lw_t7 (List.mem_of_getElem? (i := 201) rfl), lw_t7 (List.mem_of_getElem? (i := 202) rfl)⟩
theorem lw_p47 : lw_okq (⟨"GrowingDoorModel", "emit", "(II)V"⟩, 57) := ⟨⟨by decide +kernel, by decide +kernel⟩, lw_t6 (List.mem_of_getElem? (i := 152) rfl), lw_t7 (List.mem_of_getElem? (i := 205) rfl), lw_t7 (List.mem_of_getElem? (i := 206) rfl)⟩
def lw_privs_3 : List (MethodName × Nat) := [(⟨"GrowingDoorModel", "fine", "()Z"⟩, 57), (⟨"GrowingDoorModel", "isMore", "()Z"⟩, 57), (⟨"GrowingDoorModel", "here", "()I"⟩, 57), (⟨"GrowingDoorModel", "word", "()I"⟩, 57), (⟨"GrowingDoorModel", "wrong", "(II)V"⟩, 57), (⟨"GrowingDoorModel", "pass", "()V"⟩, 57), (⟨"GrowingDoorModel", "readRow", "(I)V"⟩, 57), (⟨"GrowingDoorModel", "readNumber", "(II)I"⟩, 57), (⟨"GrowingDoorModel", "readKin", "()V"⟩, 57), (⟨"GrowingDoorModel", "sign", "(I)V"⟩, 57), (⟨"GrowingDoorModel", "result", "(I)I"⟩, 57), (⟨"GrowingDoorModel", "readSum", "()V"⟩, 57), (⟨"GrowingDoorModel", "readProduct", "()V"⟩, 57), (⟨"GrowingDoorModel", "readUnit", "()V"⟩, 57), (⟨"GrowingDoorModel", "opensOne", "(I)V"⟩, 57), (⟨"GrowingDoorModel", "emit", "(II)V"⟩, 57)]
theorem lw_r3 : ∀ q ∈ lw_privs_3, lw_okq q := List.forall_mem_cons.mpr ⟨lw_p32, List.forall_mem_cons.mpr ⟨lw_p33, List.forall_mem_cons.mpr ⟨lw_p34, List.forall_mem_cons.mpr ⟨lw_p35, List.forall_mem_cons.mpr ⟨lw_p36, List.forall_mem_cons.mpr ⟨lw_p37, List.forall_mem_cons.mpr ⟨lw_p38, List.forall_mem_cons.mpr ⟨lw_p39, List.forall_mem_cons.mpr ⟨lw_p40, List.forall_mem_cons.mpr ⟨lw_p41, List.forall_mem_cons.mpr ⟨lw_p42, List.forall_mem_cons.mpr ⟨lw_p43, List.forall_mem_cons.mpr ⟨lw_p44, List.forall_mem_cons.mpr ⟨lw_p45, List.forall_mem_cons.mpr ⟨lw_p46, List.forall_mem_cons.mpr ⟨lw_p47, fun _ h => absurd h List.not_mem_nil⟩⟩⟩⟩⟩⟩⟩⟩⟩⟩⟩⟩⟩⟩⟩⟩
theorem lw_p48 : lw_okq (⟨"GrowingDoorModel", "readTwo", "(II)V"⟩, 57) := ⟨⟨by decide +kernel, by decide +kernel⟩, lw_t6 (List.mem_of_getElem? (i := 152) rfl), lw_t7 (List.mem_of_getElem? (i := 210) rfl), lw_t7 (List.mem_of_getElem? (i := 211) rfl)⟩
theorem lw_p49 : lw_okq (⟨"GrowingDoorModel", "factHere", "()I"⟩, 57) := ⟨⟨by decide +kernel, by decide +kernel⟩, lw_t6 (List.mem_of_getElem? (i := 152) rfl), lw_t7 (List.mem_of_getElem? (i := 215) rfl), lw_t7 (List.mem_of_getElem? (i := 216) rfl)⟩
theorem lw_p50 : lw_okq (⟨"GrowingDoorModel", "readStep", "()V"⟩, 57) := ⟨⟨by decide +kernel, by decide +kernel⟩, lw_t6 (List.mem_of_getElem? (i := 152) rfl), lw_t7 (List.mem_of_getElem? (i := 228) rfl), lw_t7 (List.mem_of_getElem? (i := 229) rfl)⟩
theorem lw_p51 : lw_okq (⟨"GrowingDoorModel", "tellsStep", "(III)V"⟩, 57) := ⟨⟨by decide +kernel, by decide +kernel⟩, lw_t6 (List.mem_of_getElem? (i := 152) rfl), lw_t7 (List.mem_of_getElem? (i := 232) rfl), lw_t7 (List.mem_of_getElem? (i := 233) rfl)⟩
theorem lw_p52 : lw_okq (⟨"GrowingDoorModel", "take", "()V"⟩, 57) := ⟨⟨by decide +kernel, by decide +kernel⟩, lw_t6 (List.mem_of_getElem? (i := 152) rfl), lw_t8 (List.mem_of_getElem? (i := 3) rfl), lw_t8 (List.mem_of_getElem? (i := 4) rfl)⟩
theorem lw_p53 : lw_okq (⟨"GrowingDoorModel", "goesSteps", "(II)V"⟩, 57) := ⟨⟨by decide +kernel, by decide +kernel⟩, lw_t6 (List.mem_of_getElem? (i := 152) rfl), lw_t8 (List.mem_of_getElem? (i := 7) rfl), lw_t8 (List.mem_of_getElem? (i := 8) rfl)⟩
theorem lw_p54 : lw_okq (⟨"GrowingDoorModel", "isDone", "(III)Z"⟩, 57) := ⟨⟨by decide +kernel, by decide +kernel⟩, lw_t6 (List.mem_of_getElem? (i := 152) rfl), lw_t8 (List.mem_of_getElem? (i := 11) rfl), lw_t8 (List.mem_of_getElem? (i := 12) rfl)⟩
theorem lw_p55 : lw_okq (⟨"GrowingDoorModel", "cuts", "(I)Z"⟩, 57) := ⟨⟨by decide +kernel, by decide +kernel⟩, lw_t6 (List.mem_of_getElem? (i := 152) rfl), lw_t8 (List.mem_of_getElem? (i := 15) rfl), lw_t8 (List.mem_of_getElem? (i := 16) rfl)⟩
theorem lw_p56 : lw_okq (⟨"GrowingDoorModel", "boardAt", "(I)I"⟩, 57) := ⟨⟨by decide +kernel, by decide +kernel⟩, lw_t6 (List.mem_of_getElem? (i := 152) rfl), lw_t8 (List.mem_of_getElem? (i := 19) rfl), lw_t8 (List.mem_of_getElem? (i := 20) rfl)⟩
theorem lw_p57 : lw_okq (⟨"GrowingDoorModel", "below", "(I)I"⟩, 57) := ⟨⟨by decide +kernel, by decide +kernel⟩, lw_t6 (List.mem_of_getElem? (i := 152) rfl), lw_t8 (List.mem_of_getElem? (i := 23) rfl), lw_t8 (List.mem_of_getElem? (i := 24) rfl)⟩
theorem lw_p58 : lw_okq (⟨"GrowingDoorModel", "becomes", "(II)Z"⟩, 57) := ⟨⟨by decide +kernel, by decide +kernel⟩, lw_t6 (List.mem_of_getElem? (i := 152) rfl), lw_t8 (List.mem_of_getElem? (i := 27) rfl), lw_t8 (List.mem_of_getElem? (i := 28) rfl)⟩
theorem lw_p59 : lw_okq (⟨"GrowingDoorModel", "planed", "(II)Z"⟩, 57) := ⟨⟨by decide +kernel, by decide +kernel⟩, lw_t6 (List.mem_of_getElem? (i := 152) rfl), lw_t8 (List.mem_of_getElem? (i := 31) rfl), lw_t8 (List.mem_of_getElem? (i := 32) rfl)⟩
theorem lw_p60 : lw_okq (⟨"GrowingDoorModel", "goesOn", "()V"⟩, 57) := ⟨⟨by decide +kernel, by decide +kernel⟩, lw_t6 (List.mem_of_getElem? (i := 152) rfl), lw_t8 (List.mem_of_getElem? (i := 35) rfl), lw_t8 (List.mem_of_getElem? (i := 36) rfl)⟩
theorem lw_p61 : lw_okq (⟨"GrowingDoorModel", "growsBy", "(I)I"⟩, 57) := ⟨⟨by decide +kernel, by decide +kernel⟩, lw_t6 (List.mem_of_getElem? (i := 152) rfl), lw_t8 (List.mem_of_getElem? (i := 39) rfl), lw_t8 (List.mem_of_getElem? (i := 40) rfl)⟩
theorem lw_p62 : lw_okq (⟨"GrowingDoorModel", "rainNow", "()I"⟩, 57) := ⟨⟨by decide +kernel, by decide +kernel⟩, lw_t6 (List.mem_of_getElem? (i := 152) rfl), lw_t8 (List.mem_of_getElem? (i := 43) rfl), lw_t8 (List.mem_of_getElem? (i := 44) rfl)⟩
theorem lw_p63 : lw_okq (⟨"GrowingDoorModel", "gainOf", "(I)I"⟩, 57) := ⟨⟨by decide +kernel, by decide +kernel⟩, lw_t6 (List.mem_of_getElem? (i := 152) rfl), lw_t8 (List.mem_of_getElem? (i := 47) rfl), lw_t8 (List.mem_of_getElem? (i := 48) rfl)⟩
def lw_privs_4 : List (MethodName × Nat) := [(⟨"GrowingDoorModel", "readTwo", "(II)V"⟩, 57), (⟨"GrowingDoorModel", "factHere", "()I"⟩, 57), (⟨"GrowingDoorModel", "readStep", "()V"⟩, 57), (⟨"GrowingDoorModel", "tellsStep", "(III)V"⟩, 57), (⟨"GrowingDoorModel", "take", "()V"⟩, 57), (⟨"GrowingDoorModel", "goesSteps", "(II)V"⟩, 57), (⟨"GrowingDoorModel", "isDone", "(III)Z"⟩, 57), (⟨"GrowingDoorModel", "cuts", "(I)Z"⟩, 57), (⟨"GrowingDoorModel", "boardAt", "(I)I"⟩, 57), (⟨"GrowingDoorModel", "below", "(I)I"⟩, 57), (⟨"GrowingDoorModel", "becomes", "(II)Z"⟩, 57), (⟨"GrowingDoorModel", "planed", "(II)Z"⟩, 57), (⟨"GrowingDoorModel", "goesOn", "()V"⟩, 57), (⟨"GrowingDoorModel", "growsBy", "(I)I"⟩, 57), (⟨"GrowingDoorModel", "rainNow", "()I"⟩, 57), (⟨"GrowingDoorModel", "gainOf", "(I)I"⟩, 57)]
theorem lw_r4 : ∀ q ∈ lw_privs_4, lw_okq q := List.forall_mem_cons.mpr ⟨lw_p48, List.forall_mem_cons.mpr ⟨lw_p49, List.forall_mem_cons.mpr ⟨lw_p50, List.forall_mem_cons.mpr ⟨lw_p51, List.forall_mem_cons.mpr ⟨lw_p52, List.forall_mem_cons.mpr ⟨lw_p53, List.forall_mem_cons.mpr ⟨lw_p54, List.forall_mem_cons.mpr ⟨lw_p55, List.forall_mem_cons.mpr ⟨lw_p56, List.forall_mem_cons.mpr ⟨lw_p57, List.forall_mem_cons.mpr ⟨lw_p58, List.forall_mem_cons.mpr ⟨lw_p59, List.forall_mem_cons.mpr ⟨lw_p60, List.forall_mem_cons.mpr ⟨lw_p61, List.forall_mem_cons.mpr ⟨lw_p62, List.forall_mem_cons.mpr ⟨lw_p63, fun _ h => absurd h List.not_mem_nil⟩⟩⟩⟩⟩⟩⟩⟩⟩⟩⟩⟩⟩⟩⟩⟩
theorem lw_p64 : lw_okq (⟨"GrowingDoorModel", "isAt", "(I)I"⟩, 57) := ⟨⟨by decide +kernel, by decide +kernel⟩, lw_t6 (List.mem_of_getElem? (i := 152) rfl), lw_t8 (List.mem_of_getElem? (i := 51) rfl), lw_t8 (List.mem_of_getElem? (i := 52) rfl)⟩
theorem lw_p65 : lw_okq (⟨"GrowingDoorModel", "growsOf", "(IIIIIIII)I"⟩, 57) := ⟨⟨by decide +kernel, by decide +kernel⟩, lw_t6 (List.mem_of_getElem? (i := 152) rfl), lw_t8 (List.mem_of_getElem? (i := 55) rfl), lw_t8 (List.mem_of_getElem? (i := 56) rfl)⟩
theorem lw_p66 : lw_okq (⟨"GrowingDoorModel", "growsNow", "()I"⟩, 57) := ⟨⟨by decide +kernel, by decide +kernel⟩, lw_t6 (List.mem_of_getElem? (i := 152) rfl), lw_t8 (List.mem_of_getElem? (i := 59) rfl), lw_t8 (List.mem_of_getElem? (i := 60) rfl)⟩
theorem lw_p67 : lw_okq (⟨"GrowingDoorModel", "valueNow", "()I"⟩, 57) := ⟨⟨by decide +kernel, by decide +kernel⟩, lw_t6 (List.mem_of_getElem? (i := 152) rfl), lw_t8 (List.mem_of_getElem? (i := 63) rfl), lw_t8 (List.mem_of_getElem? (i := 64) rfl)⟩
theorem lw_p68 : lw_okq (⟨"GrowingDoorModel", "swellsOf", "(I)I"⟩, 57) := ⟨⟨by decide +kernel, by decide +kernel⟩, lw_t6 (List.mem_of_getElem? (i := 152) rfl), lw_t8 (List.mem_of_getElem? (i := 73) rfl), lw_t8 (List.mem_of_getElem? (i := 74) rfl)⟩
theorem lw_p69 : lw_okq (⟨"GrowingDoorModel", "bitsTold", "(I)I"⟩, 57) := ⟨⟨by decide +kernel, by decide +kernel⟩, lw_t6 (List.mem_of_getElem? (i := 152) rfl), lw_t8 (List.mem_of_getElem? (i := 92) rfl), lw_t8 (List.mem_of_getElem? (i := 93) rfl)⟩
theorem lw_p70 : lw_okq (⟨"GrowingDoorModel", "famousNow", "()I"⟩, 57) := ⟨⟨by decide +kernel, by decide +kernel⟩, lw_t6 (List.mem_of_getElem? (i := 152) rfl), lw_t8 (List.mem_of_getElem? (i := 96) rfl), lw_t8 (List.mem_of_getElem? (i := 97) rfl)⟩
theorem lw_p71 : lw_okq (⟨"GrowingDoorModel", "isBoard", "(II)Z"⟩, 57) := ⟨⟨by decide +kernel, by decide +kernel⟩, lw_t6 (List.mem_of_getElem? (i := 152) rfl), lw_t8 (List.mem_of_getElem? (i := 104) rfl), lw_t8 (List.mem_of_getElem? (i := 105) rfl)⟩
theorem lw_p72 : lw_okq (⟨"GrowingDoorModel", "isBoy", "(II)Z"⟩, 57) := ⟨⟨by decide +kernel, by decide +kernel⟩, lw_t6 (List.mem_of_getElem? (i := 152) rfl), lw_t8 (List.mem_of_getElem? (i := 112) rfl), lw_t8 (List.mem_of_getElem? (i := 113) rfl)⟩
theorem lw_p73 : lw_okq (⟨"GrowingDoorModel", "highAll", "()I"⟩, 57) := ⟨⟨by decide +kernel, by decide +kernel⟩, lw_t6 (List.mem_of_getElem? (i := 152) rfl), lw_t8 (List.mem_of_getElem? (i := 128) rfl), lw_t8 (List.mem_of_getElem? (i := 129) rfl)⟩
theorem lw_p74 : lw_okq (⟨"GrowingDoorModel", "findMates", "()I"⟩, 57) := ⟨⟨by decide +kernel, by decide +kernel⟩, lw_t6 (List.mem_of_getElem? (i := 152) rfl), lw_t8 (List.mem_of_getElem? (i := 148) rfl), lw_t8 (List.mem_of_getElem? (i := 149) rfl)⟩
theorem lw_p75 : lw_okq (⟨"GrowingDoorModel", "layMates", "(II)I"⟩, 57) := ⟨⟨by decide +kernel, by decide +kernel⟩, lw_t6 (List.mem_of_getElem? (i := 152) rfl), lw_t8 (List.mem_of_getElem? (i := 152) rfl), lw_t8 (List.mem_of_getElem? (i := 153) rfl)⟩
theorem lw_p76 : lw_okq (⟨"GrowingDoorModel", "far", "(II)I"⟩, 57) := ⟨⟨by decide +kernel, by decide +kernel⟩, lw_t6 (List.mem_of_getElem? (i := 152) rfl), lw_t8 (List.mem_of_getElem? (i := 159) rfl), lw_t8 (List.mem_of_getElem? (i := 160) rfl)⟩
theorem lw_p77 : lw_okq (⟨"GrowingDoorModel", "thereNow", "()I"⟩, 57) := ⟨⟨by decide +kernel, by decide +kernel⟩, lw_t6 (List.mem_of_getElem? (i := 152) rfl), lw_t8 (List.mem_of_getElem? (i := 163) rfl), lw_t8 (List.mem_of_getElem? (i := 164) rfl)⟩
theorem lw_p78 : lw_okq (⟨"GrowingDoorModel", "layLadder", "()I"⟩, 57) := ⟨⟨by decide +kernel, by decide +kernel⟩, lw_t6 (List.mem_of_getElem? (i := 152) rfl), lw_t8 (List.mem_of_getElem? (i := 178) rfl), lw_t8 (List.mem_of_getElem? (i := 179) rfl)⟩
theorem lw_p79 : lw_okq (⟨"GrowingDoorModel", "findPairs", "(I)V"⟩, 57) := ⟨⟨by decide +kernel, by decide +kernel⟩, lw_t6 (List.mem_of_getElem? (i := 152) rfl), lw_t8 (List.mem_of_getElem? (i := 190) rfl), lw_t8 (List.mem_of_getElem? (i := 191) rfl)⟩
def lw_privs_5 : List (MethodName × Nat) := [(⟨"GrowingDoorModel", "isAt", "(I)I"⟩, 57), (⟨"GrowingDoorModel", "growsOf", "(IIIIIIII)I"⟩, 57), (⟨"GrowingDoorModel", "growsNow", "()I"⟩, 57), (⟨"GrowingDoorModel", "valueNow", "()I"⟩, 57), (⟨"GrowingDoorModel", "swellsOf", "(I)I"⟩, 57), (⟨"GrowingDoorModel", "bitsTold", "(I)I"⟩, 57), (⟨"GrowingDoorModel", "famousNow", "()I"⟩, 57), (⟨"GrowingDoorModel", "isBoard", "(II)Z"⟩, 57), (⟨"GrowingDoorModel", "isBoy", "(II)Z"⟩, 57), (⟨"GrowingDoorModel", "highAll", "()I"⟩, 57), (⟨"GrowingDoorModel", "findMates", "()I"⟩, 57), (⟨"GrowingDoorModel", "layMates", "(II)I"⟩, 57), (⟨"GrowingDoorModel", "far", "(II)I"⟩, 57), (⟨"GrowingDoorModel", "thereNow", "()I"⟩, 57), (⟨"GrowingDoorModel", "layLadder", "()I"⟩, 57), (⟨"GrowingDoorModel", "findPairs", "(I)V"⟩, 57)]
theorem lw_r5 : ∀ q ∈ lw_privs_5, lw_okq q := List.forall_mem_cons.mpr ⟨lw_p64, List.forall_mem_cons.mpr ⟨lw_p65, List.forall_mem_cons.mpr ⟨lw_p66, List.forall_mem_cons.mpr ⟨lw_p67, List.forall_mem_cons.mpr ⟨lw_p68, List.forall_mem_cons.mpr ⟨lw_p69, List.forall_mem_cons.mpr ⟨lw_p70, List.forall_mem_cons.mpr ⟨lw_p71, List.forall_mem_cons.mpr ⟨lw_p72, List.forall_mem_cons.mpr ⟨lw_p73, List.forall_mem_cons.mpr ⟨lw_p74, List.forall_mem_cons.mpr ⟨lw_p75, List.forall_mem_cons.mpr ⟨lw_p76, List.forall_mem_cons.mpr ⟨lw_p77, List.forall_mem_cons.mpr ⟨lw_p78, List.forall_mem_cons.mpr ⟨lw_p79, fun _ h => absurd h List.not_mem_nil⟩⟩⟩⟩⟩⟩⟩⟩⟩⟩⟩⟩⟩⟩⟩⟩
theorem lw_p80 : lw_okq (⟨"GrowingDoorModel", "chairsBy", "(II)I"⟩, 57) := ⟨⟨by decide +kernel, by decide +kernel⟩, lw_t6 (List.mem_of_getElem? (i := 152) rfl), lw_t8 (List.mem_of_getElem? (i := 217) rfl), lw_t8 (List.mem_of_getElem? (i := 218) rfl)⟩
theorem lw_p81 : lw_okq (⟨"GrowingDoorModel", "decadeGoes", "(III)V"⟩, 57) := ⟨⟨by decide +kernel, by decide +kernel⟩, lw_t6 (List.mem_of_getElem? (i := 152) rfl), lw_t9 (List.mem_of_getElem? (i := 12) rfl), lw_t9 (List.mem_of_getElem? (i := 13) rfl)⟩
theorem lw_p82 : lw_okq (⟨"GrowingDoorModel", "draws", "(I)I"⟩, 57) := ⟨⟨by decide +kernel, by decide +kernel⟩, lw_t6 (List.mem_of_getElem? (i := 152) rfl), lw_t9 (List.mem_of_getElem? (i := 16) rfl), lw_t9 (List.mem_of_getElem? (i := 17) rfl)⟩
theorem lw_p83 : lw_okq (⟨"GrowingDoorModel", "keepsAll", "(IZ)V"⟩, 57) := ⟨⟨by decide +kernel, by decide +kernel⟩, lw_t6 (List.mem_of_getElem? (i := 152) rfl), lw_t9 (List.mem_of_getElem? (i := 29) rfl), lw_t9 (List.mem_of_getElem? (i := 30) rfl)⟩
theorem lw_p84 : lw_okq (⟨"GrowingDoorModel", "keepsRow", "(I[IIZ)I"⟩, 57) := ⟨⟨by decide +kernel, by decide +kernel⟩, lw_t6 (List.mem_of_getElem? (i := 152) rfl), lw_t9 (List.mem_of_getElem? (i := 33) rfl), lw_t9 (List.mem_of_getElem? (i := 34) rfl)⟩
def lw_privs_6 : List (MethodName × Nat) := [(⟨"GrowingDoorModel", "chairsBy", "(II)I"⟩, 57), (⟨"GrowingDoorModel", "decadeGoes", "(III)V"⟩, 57), (⟨"GrowingDoorModel", "draws", "(I)I"⟩, 57), (⟨"GrowingDoorModel", "keepsAll", "(IZ)V"⟩, 57), (⟨"GrowingDoorModel", "keepsRow", "(I[IIZ)I"⟩, 57)]
theorem lw_r6 : ∀ q ∈ lw_privs_6, lw_okq q := List.forall_mem_cons.mpr ⟨lw_p80, List.forall_mem_cons.mpr ⟨lw_p81, List.forall_mem_cons.mpr ⟨lw_p82, List.forall_mem_cons.mpr ⟨lw_p83, List.forall_mem_cons.mpr ⟨lw_p84, fun _ h => absurd h List.not_mem_nil⟩⟩⟩⟩⟩
def lw_privs : List (MethodName × Nat) := lw_privs_1 ++ (lw_privs_2 ++ (lw_privs_3 ++ (lw_privs_4 ++ (lw_privs_5 ++ (lw_privs_6)))))
def lw_tbl : List Cond := k2_sels lw_privs ++ tables_1
theorem lw_privs_ok : ∀ q ∈ lw_privs, lw_okq q := by
  show ∀ q ∈ lw_privs_1 ++ (lw_privs_2 ++ (lw_privs_3 ++ (lw_privs_4 ++ (lw_privs_5 ++ (lw_privs_6))))), lw_okq q
  exact List.forall_mem_append.mpr ⟨lw_r1, List.forall_mem_append.mpr ⟨lw_r2, List.forall_mem_append.mpr ⟨lw_r3, List.forall_mem_append.mpr ⟨lw_r4, List.forall_mem_append.mpr ⟨lw_r5, lw_r6⟩⟩⟩⟩⟩
-- ===== ONE list of words for every method: the tables' words that hold all through a run =====
def lw_all : List Cond := lw_tbl.filter goodWord
/-- a word of the tables by its place: claim/WORDS.tsv -/
theorem lw_w {w : Cond} (i : Nat) (h : lw_tbl[i]? = some w) (g : goodWord w = true) : w ∈ lw_all := List.mem_filter.mpr ⟨List.mem_of_getElem? h, g⟩
theorem lw_all_tbl {w : Cond} (h : w ∈ lw_all) : w ∈ lw_tbl := (List.mem_filter.mp h).1
theorem lw_self : GoodIn lw_all lw_all := fun w h => ⟨h, good_of_word (List.mem_filter.mp h).2⟩
/-- a class's field words, by their places -/
theorem lw_in (ws : List Cond) (ps : List Nat) (hp : ws = ps.filterMap (fun i => lw_tbl[i]?)) (hg : ws.all goodWord = true) : ∀ w ∈ ws, w ∈ lw_all := by
  intro w h
  have h1 := List.all_eq_true.mp hg w h
  rw [hp] at h
  obtain ⟨i, -, hi⟩ := List.mem_filterMap.mp h
  exact lw_w i hi h1
/-- the words of a contract for the method y with code b, L locals, answer r -/
abbrev ws_ (y : MethodName) (b : ByteArray) (L : Nat) (r : Option FieldType) : List Cond := Cond.code y b L r :: lw_all
theorem lw_meth {y : MethodName} {b : ByteArray} {L : Nat} {r : Option FieldType} (h : Cond.code y b L r ∈ lw_all) : GoodIn lw_all (ws_ y b L r) := by
  intro w hw
  rcases List.mem_cons.mp hw with e | e
  · rw [e]
    exact lw_self _ h
  · exact lw_self _ e
theorem lw_app {a c : List Cond} (ha : ∀ w ∈ a, w ∈ lw_all) (hc : GoodIn lw_all c) : GoodIn lw_all (a ++ c) := by
  intro w hw
  rcases List.mem_append.mp hw with e | e
  · exact lw_self w (ha w e)
  · exact hc w e
/-- what a call through an object asks: cwV n hts (lw_V ..) -/
theorem lw_V {own : String} {idx : Nat} {C : String} {y : MethodName} {b : ByteArray} {L : Nat} {r : Option FieldType} (h1 : Cond.methodLink own idx y ∈ lw_all) (h2 : Cond.instanceMethod y ∈ lw_all) (h3 : Cond.selects C y y ∈ lw_all) (h4 : Cond.initialized C ∈ lw_all) (h5 : Cond.code y b L r ∈ lw_all) : GoodIn lw_all (wsV own idx C y (ws_ y b L r)) := by
  refine lw_app ?_ (lw_meth h5)
  intro w hw
  simp only [List.mem_cons, List.not_mem_nil, or_false] at hw
  rcases hw with e | e | e | e
  · rw [e]; exact h1
  · rw [e]; exact h2
  · rw [e]; exact h3
  · rw [e]; exact h4
/-- what a static call asks: va_cwS n hts (lw_S ..) -/
theorem lw_S {own : String} {idx : Nat} {y : MethodName} {b : ByteArray} {L : Nat} {r : Option FieldType} (h1 : Cond.methodLink own idx y ∈ lw_all) (h2 : Cond.static y ∈ lw_all) (h3 : Cond.initialized y.cls ∈ lw_all) (h4 : Cond.code y b L r ∈ lw_all) : GoodIn lw_all (va_wsS own idx y (ws_ y b L r)) := by
  refine lw_app ?_ (lw_meth h4)
  intro w hw
  simp only [List.mem_cons, List.not_mem_nil, or_false] at hw
  rcases hw with e | e | e
  · rw [e]; exact h1
  · rw [e]; exact h2
  · rw [e]; exact h3
/-- the words of a contract for a method WITH HANDLERS (hh: its table) -/
abbrev wsW_ (y : MethodName) (b : ByteArray) (L : Nat) (r : Option FieldType) (hh : List (Nat × Nat × Nat × Nat)) : List Cond := Cond.codeWith y b L r hh :: lw_all
theorem lw_methW {y : MethodName} {b : ByteArray} {L : Nat} {r : Option FieldType} {hh : List (Nat × Nat × Nat × Nat)} (h : Cond.codeWith y b L r hh ∈ lw_all) : GoodIn lw_all (wsW_ y b L r hh) := by
  intro w hw
  rcases List.mem_cons.mp hw with e | e
  · rw [e]
    exact lw_self _ h
  · exact lw_self _ e
/-- any list of words by their places (lw_in), good -/
theorem lw_good {ws : List Cond} (h : ∀ w ∈ ws, w ∈ lw_all) : GoodIn lw_all ws := fun w hw => lw_self w (h w hw)
/-- what a call of a method with handlers asks: vx_cwVW n hts (lw_VW ..), vx_cwSW n hts (lw_SW ..) -/
theorem lw_VW {own : String} {idx : Nat} {C : String} {y : MethodName} {b : ByteArray} {L : Nat} {r : Option FieldType} {hh : List (Nat × Nat × Nat × Nat)} (h1 : Cond.methodLink own idx y ∈ lw_all) (h2 : Cond.instanceMethod y ∈ lw_all) (h3 : Cond.selects C y y ∈ lw_all) (h4 : Cond.initialized C ∈ lw_all) (h5 : Cond.codeWith y b L r hh ∈ lw_all) : GoodIn lw_all (wsV own idx C y (wsW_ y b L r hh)) := by
  refine lw_app ?_ (lw_methW h5)
  intro w hw
  simp only [List.mem_cons, List.not_mem_nil, or_false] at hw
  rcases hw with e | e | e | e
  · rw [e]; exact h1
  · rw [e]; exact h2
  · rw [e]; exact h3
  · rw [e]; exact h4
theorem lw_SW {own : String} {idx : Nat} {y : MethodName} {b : ByteArray} {L : Nat} {r : Option FieldType} {hh : List (Nat × Nat × Nat × Nat)} (h1 : Cond.methodLink own idx y ∈ lw_all) (h2 : Cond.static y ∈ lw_all) (h3 : Cond.initialized y.cls ∈ lw_all) (h4 : Cond.codeWith y b L r hh ∈ lw_all) : GoodIn lw_all (va_wsS own idx y (wsW_ y b L r hh)) := by
  refine lw_app ?_ (lw_methW h4)
  intro w hw
  simp only [List.mem_cons, List.not_mem_nil, or_false] at hw
  rcases hw with e | e | e
  · rw [e]; exact h1
  · rw [e]; exact h2
  · rw [e]; exact h3
/-- a word by its place in its run of the tables -/
theorem lw_at {r : List Cond} (hr : ∀ w ∈ r, w ∈ lw_tbl) {w : Cond} (i : Nat) (h : r[i]? = some w) : w ∈ lw_tbl := hr w (List.mem_of_getElem? h)
theorem lw_g {w : Cond} (h : w ∈ lw_tbl) (g : goodWord w = true) : w ∈ lw_all := List.mem_filter.mpr ⟨h, g⟩
theorem lw_ms : ∀ w ∈ k2_sels lw_privs, w ∈ lw_tbl := fun w h => show w ∈ k2_sels lw_privs ++ tables_1 from List.mem_append_left _ h
theorem lw_m1 : ∀ w ∈ tables_1_1, w ∈ lw_tbl := fun w h => show w ∈ k2_sels lw_privs ++ tables_1 from List.mem_append_right (k2_sels lw_privs) (show w ∈ tables_1 from List.mem_append_left _ h)
theorem lw_m2 : ∀ w ∈ tables_1_2, w ∈ lw_tbl := fun w h => show w ∈ k2_sels lw_privs ++ tables_1 from List.mem_append_right (k2_sels lw_privs) (show w ∈ tables_1 from List.mem_append_right _ (List.mem_append_left _ h))
theorem lw_m3 : ∀ w ∈ tables_1_3, w ∈ lw_tbl := fun w h => show w ∈ k2_sels lw_privs ++ tables_1 from List.mem_append_right (k2_sels lw_privs) (show w ∈ tables_1 from List.mem_append_right _ (List.mem_append_right _ (List.mem_append_left _ h)))
theorem lw_m4 : ∀ w ∈ tables_1_4, w ∈ lw_tbl := fun w h => show w ∈ k2_sels lw_privs ++ tables_1 from List.mem_append_right (k2_sels lw_privs) (show w ∈ tables_1 from List.mem_append_right _ (List.mem_append_right _ (List.mem_append_right _ (List.mem_append_left _ h))))
theorem lw_m5 : ∀ w ∈ tables_1_5, w ∈ lw_tbl := fun w h => show w ∈ k2_sels lw_privs ++ tables_1 from List.mem_append_right (k2_sels lw_privs) (show w ∈ tables_1 from List.mem_append_right _ (List.mem_append_right _ (List.mem_append_right _ (List.mem_append_right _ (List.mem_append_left _ h)))))
theorem lw_m6 : ∀ w ∈ tables_1_6, w ∈ lw_tbl := fun w h => show w ∈ k2_sels lw_privs ++ tables_1 from List.mem_append_right (k2_sels lw_privs) (show w ∈ tables_1 from List.mem_append_right _ (List.mem_append_right _ (List.mem_append_right _ (List.mem_append_right _ (List.mem_append_right _ (List.mem_append_left _ h))))))
theorem lw_m7 : ∀ w ∈ tables_1_7, w ∈ lw_tbl := fun w h => show w ∈ k2_sels lw_privs ++ tables_1 from List.mem_append_right (k2_sels lw_privs) (show w ∈ tables_1 from List.mem_append_right _ (List.mem_append_right _ (List.mem_append_right _ (List.mem_append_right _ (List.mem_append_right _ (List.mem_append_right _ (List.mem_append_left _ h)))))))
theorem lw_m8 : ∀ w ∈ tables_1_8, w ∈ lw_tbl := fun w h => show w ∈ k2_sels lw_privs ++ tables_1 from List.mem_append_right (k2_sels lw_privs) (show w ∈ tables_1 from List.mem_append_right _ (List.mem_append_right _ (List.mem_append_right _ (List.mem_append_right _ (List.mem_append_right _ (List.mem_append_right _ (List.mem_append_right _ (List.mem_append_left _ h))))))))
theorem lw_m9 : ∀ w ∈ tables_1_9, w ∈ lw_tbl := fun w h => show w ∈ k2_sels lw_privs ++ tables_1 from List.mem_append_right (k2_sels lw_privs) (show w ∈ tables_1 from List.mem_append_right _ (List.mem_append_right _ (List.mem_append_right _ (List.mem_append_right _ (List.mem_append_right _ (List.mem_append_right _ (List.mem_append_right _ (List.mem_append_right _ h))))))))
theorem qs0 : (Cond.selects "GrowingDoor$Mates" ⟨"GrowingDoor$Mates", "tries", "(IZI)V"⟩ ⟨"GrowingDoor$Mates", "tries", "(IZI)V"⟩) ∈ lw_all := lw_g (lw_at lw_ms 0 rfl) rfl
theorem qs1 : (Cond.selects "GrowingDoor" ⟨"GrowingDoor", "climbs", "()I"⟩ ⟨"GrowingDoor", "climbs", "()I"⟩) ∈ lw_all := lw_g (lw_at lw_ms 1 rfl) rfl
theorem qs2 : (Cond.selects "GrowingDoor" ⟨"GrowingDoor", "within", "(III)V"⟩ ⟨"GrowingDoor", "within", "(III)V"⟩) ∈ lw_all := lw_g (lw_at lw_ms 2 rfl) rfl
theorem qs3 : (Cond.selects "java/lang/Throwable" ⟨"java/lang/Throwable", "fillInStackTrace", "(I)Ljava/lang/Throwable;"⟩ ⟨"java/lang/Throwable", "fillInStackTrace", "(I)Ljava/lang/Throwable;"⟩) ∈ lw_all := lw_g (lw_at lw_ms 3 rfl) rfl
theorem qs4 : (Cond.selects "GrowingDoor" ⟨"GrowingDoor", "reader", "(I)LGrowingDoor$Reader;"⟩ ⟨"GrowingDoor", "reader", "(I)LGrowingDoor$Reader;"⟩) ∈ lw_all := lw_g (lw_at lw_ms 4 rfl) rfl
theorem qs5 : (Cond.selects "GrowingDoor$Reader" ⟨"GrowingDoor$Reader", "byteAt", "(I)I"⟩ ⟨"GrowingDoor$Reader", "byteAt", "(I)I"⟩) ∈ lw_all := lw_g (lw_at lw_ms 5 rfl) rfl
theorem qs6 : (Cond.selects "GrowingDoor$SchoolReader" ⟨"GrowingDoor$SchoolReader", "clause", "()V"⟩ ⟨"GrowingDoor$SchoolReader", "clause", "()V"⟩) ∈ lw_all := lw_g (lw_at lw_ms 6 rfl) rfl
theorem qs7 : (Cond.selects "GrowingDoor$SchoolReader" ⟨"GrowingDoor$SchoolReader", "isFull", "(I)Z"⟩ ⟨"GrowingDoor$SchoolReader", "isFull", "(I)Z"⟩) ∈ lw_all := lw_g (lw_at lw_ms 7 rfl) rfl
theorem qs8 : (Cond.selects "GrowingDoor$SchoolReader" ⟨"GrowingDoor$SchoolReader", "kin", "()V"⟩ ⟨"GrowingDoor$SchoolReader", "kin", "()V"⟩) ∈ lw_all := lw_g (lw_at lw_ms 8 rfl) rfl
theorem qs9 : (Cond.selects "GrowingDoor" ⟨"GrowingDoor", "faulty", "(LGrowingDoor$Wrong;)I"⟩ ⟨"GrowingDoor", "faulty", "(LGrowingDoor$Wrong;)I"⟩) ∈ lw_all := lw_g (lw_at lw_ms 9 rfl) rfl
theorem qs10 : (Cond.selects "GrowingDoor$LawReader" ⟨"GrowingDoor$LawReader", "sum", "()LGrowingDoor$Term;"⟩ ⟨"GrowingDoor$LawReader", "sum", "()LGrowingDoor$Term;"⟩) ∈ lw_all := lw_g (lw_at lw_ms 10 rfl) rfl
theorem qs11 : (Cond.selects "GrowingDoor$LawReader" ⟨"GrowingDoor$LawReader", "product", "()LGrowingDoor$Term;"⟩ ⟨"GrowingDoor$LawReader", "product", "()LGrowingDoor$Term;"⟩) ∈ lw_all := lw_g (lw_at lw_ms 11 rfl) rfl
theorem qs12 : (Cond.selects "GrowingDoor$LawReader" ⟨"GrowingDoor$LawReader", "value", "()LGrowingDoor$Term;"⟩ ⟨"GrowingDoor$LawReader", "value", "()LGrowingDoor$Term;"⟩) ∈ lw_all := lw_g (lw_at lw_ms 12 rfl) rfl
theorem qs13 : (Cond.selects "GrowingDoor$WorkReader" ⟨"GrowingDoor$WorkReader", "one", "()LGrowingDoor$Step;"⟩ ⟨"GrowingDoor$WorkReader", "one", "()LGrowingDoor$Step;"⟩) ∈ lw_all := lw_g (lw_at lw_ms 13 rfl) rfl
theorem qs14 : (Cond.selects "GrowingDoor$WorkReader" ⟨"GrowingDoor$WorkReader", "boy", "()I"⟩ ⟨"GrowingDoor$WorkReader", "boy", "()I"⟩) ∈ lw_all := lw_g (lw_at lw_ms 14 rfl) rfl
theorem qs15 : (Cond.selects "GrowingDoor$WorkReader" ⟨"GrowingDoor$WorkReader", "again", "()LGrowingDoor$Row;"⟩ ⟨"GrowingDoor$WorkReader", "again", "()LGrowingDoor$Row;"⟩) ∈ lw_all := lw_g (lw_at lw_ms 15 rfl) rfl
theorem qs16 : (Cond.selects "GrowingDoor" ⟨"GrowingDoor", "boardOf", "(I)V"⟩ ⟨"GrowingDoor", "boardOf", "(I)V"⟩) ∈ lw_all := lw_g (lw_at lw_ms 16 rfl) rfl
theorem qs17 : (Cond.selects "GrowingDoor" ⟨"GrowingDoor", "oneOf", "(II)V"⟩ ⟨"GrowingDoor", "oneOf", "(II)V"⟩) ∈ lw_all := lw_g (lw_at lw_ms 17 rfl) rfl
theorem qs18 : (Cond.selects "GrowingDoor" ⟨"GrowingDoor", "boyOf", "(I)V"⟩ ⟨"GrowingDoor", "boyOf", "(I)V"⟩) ∈ lw_all := lw_g (lw_at lw_ms 18 rfl) rfl
theorem qs19 : (Cond.selects "GrowingDoor" ⟨"GrowingDoor", "tried", "()LGrowingDoor$State;"⟩ ⟨"GrowingDoor", "tried", "()LGrowingDoor$State;"⟩) ∈ lw_all := lw_g (lw_at lw_ms 19 rfl) rfl
theorem qs20 : (Cond.selects "GrowingDoor" ⟨"GrowingDoor", "isGrown", "(III)Z"⟩ ⟨"GrowingDoor", "isGrown", "(III)Z"⟩) ∈ lw_all := lw_g (lw_at lw_ms 20 rfl) rfl
theorem qs21 : (Cond.selects "GrowingDoor" ⟨"GrowingDoor", "isTold", "(I)Z"⟩ ⟨"GrowingDoor", "isTold", "(I)Z"⟩) ∈ lw_all := lw_g (lw_at lw_ms 21 rfl) rfl
theorem qs22 : (Cond.selects "GrowingDoor" ⟨"GrowingDoor", "worstAt", "(II)I"⟩ ⟨"GrowingDoor", "worstAt", "(II)I"⟩) ∈ lw_all := lw_g (lw_at lw_ms 22 rfl) rfl
theorem qs23 : (Cond.selects "GrowingDoor" ⟨"GrowingDoor", "givenBy", "(II)I"⟩ ⟨"GrowingDoor", "givenBy", "(II)I"⟩) ∈ lw_all := lw_g (lw_at lw_ms 23 rfl) rfl
theorem qs24 : (Cond.selects "GrowingDoor" ⟨"GrowingDoor", "decadeOf", "(II)V"⟩ ⟨"GrowingDoor", "decadeOf", "(II)V"⟩) ∈ lw_all := lw_g (lw_at lw_ms 24 rfl) rfl
theorem qs25 : (Cond.selects "GrowingDoor" ⟨"GrowingDoor", "goes", "(III)LGrowingDoor$State;"⟩ ⟨"GrowingDoor", "goes", "(III)LGrowingDoor$State;"⟩) ∈ lw_all := lw_g (lw_at lw_ms 25 rfl) rfl
theorem qs26 : (Cond.selects "GrowingDoor" ⟨"GrowingDoor", "draw", "(I)I"⟩ ⟨"GrowingDoor", "draw", "(I)I"⟩) ∈ lw_all := lw_g (lw_at lw_ms 26 rfl) rfl
theorem qs27 : (Cond.selects "GrowingDoorModel" ⟨"GrowingDoorModel", "clears", "()V"⟩ ⟨"GrowingDoorModel", "clears", "()V"⟩) ∈ lw_all := lw_g (lw_at lw_ms 27 rfl) rfl
theorem qs28 : (Cond.selects "GrowingDoorModel" ⟨"GrowingDoorModel", "sets", "()V"⟩ ⟨"GrowingDoorModel", "sets", "()V"⟩) ∈ lw_all := lw_g (lw_at lw_ms 28 rfl) rfl
theorem qs29 : (Cond.selects "GrowingDoorModel" ⟨"GrowingDoorModel", "copies", "([I[II)V"⟩ ⟨"GrowingDoorModel", "copies", "([I[II)V"⟩) ∈ lw_all := lw_g (lw_at lw_ms 29 rfl) rfl
theorem qs30 : (Cond.selects "GrowingDoorModel" ⟨"GrowingDoorModel", "may", "(ZII)Z"⟩ ⟨"GrowingDoorModel", "may", "(ZII)Z"⟩) ∈ lw_all := lw_g (lw_at lw_ms 30 rfl) rfl
theorem qs31 : (Cond.selects "GrowingDoorModel" ⟨"GrowingDoorModel", "begins", "(I)V"⟩ ⟨"GrowingDoorModel", "begins", "(I)V"⟩) ∈ lw_all := lw_g (lw_at lw_ms 31 rfl) rfl
theorem qs32 : (Cond.selects "GrowingDoorModel" ⟨"GrowingDoorModel", "fine", "()Z"⟩ ⟨"GrowingDoorModel", "fine", "()Z"⟩) ∈ lw_all := lw_g (lw_at lw_ms 32 rfl) rfl
theorem qs33 : (Cond.selects "GrowingDoorModel" ⟨"GrowingDoorModel", "isMore", "()Z"⟩ ⟨"GrowingDoorModel", "isMore", "()Z"⟩) ∈ lw_all := lw_g (lw_at lw_ms 33 rfl) rfl
theorem qs34 : (Cond.selects "GrowingDoorModel" ⟨"GrowingDoorModel", "here", "()I"⟩ ⟨"GrowingDoorModel", "here", "()I"⟩) ∈ lw_all := lw_g (lw_at lw_ms 34 rfl) rfl
theorem qs35 : (Cond.selects "GrowingDoorModel" ⟨"GrowingDoorModel", "word", "()I"⟩ ⟨"GrowingDoorModel", "word", "()I"⟩) ∈ lw_all := lw_g (lw_at lw_ms 35 rfl) rfl
theorem qs36 : (Cond.selects "GrowingDoorModel" ⟨"GrowingDoorModel", "wrong", "(II)V"⟩ ⟨"GrowingDoorModel", "wrong", "(II)V"⟩) ∈ lw_all := lw_g (lw_at lw_ms 36 rfl) rfl
theorem qs37 : (Cond.selects "GrowingDoorModel" ⟨"GrowingDoorModel", "pass", "()V"⟩ ⟨"GrowingDoorModel", "pass", "()V"⟩) ∈ lw_all := lw_g (lw_at lw_ms 37 rfl) rfl
theorem qs38 : (Cond.selects "GrowingDoorModel" ⟨"GrowingDoorModel", "readRow", "(I)V"⟩ ⟨"GrowingDoorModel", "readRow", "(I)V"⟩) ∈ lw_all := lw_g (lw_at lw_ms 38 rfl) rfl
theorem qs39 : (Cond.selects "GrowingDoorModel" ⟨"GrowingDoorModel", "readNumber", "(II)I"⟩ ⟨"GrowingDoorModel", "readNumber", "(II)I"⟩) ∈ lw_all := lw_g (lw_at lw_ms 39 rfl) rfl
theorem qs40 : (Cond.selects "GrowingDoorModel" ⟨"GrowingDoorModel", "readKin", "()V"⟩ ⟨"GrowingDoorModel", "readKin", "()V"⟩) ∈ lw_all := lw_g (lw_at lw_ms 40 rfl) rfl
theorem qs41 : (Cond.selects "GrowingDoorModel" ⟨"GrowingDoorModel", "sign", "(I)V"⟩ ⟨"GrowingDoorModel", "sign", "(I)V"⟩) ∈ lw_all := lw_g (lw_at lw_ms 41 rfl) rfl
theorem qs42 : (Cond.selects "GrowingDoorModel" ⟨"GrowingDoorModel", "result", "(I)I"⟩ ⟨"GrowingDoorModel", "result", "(I)I"⟩) ∈ lw_all := lw_g (lw_at lw_ms 42 rfl) rfl
theorem qs43 : (Cond.selects "GrowingDoorModel" ⟨"GrowingDoorModel", "readSum", "()V"⟩ ⟨"GrowingDoorModel", "readSum", "()V"⟩) ∈ lw_all := lw_g (lw_at lw_ms 43 rfl) rfl
theorem qs44 : (Cond.selects "GrowingDoorModel" ⟨"GrowingDoorModel", "readProduct", "()V"⟩ ⟨"GrowingDoorModel", "readProduct", "()V"⟩) ∈ lw_all := lw_g (lw_at lw_ms 44 rfl) rfl
theorem qs45 : (Cond.selects "GrowingDoorModel" ⟨"GrowingDoorModel", "readUnit", "()V"⟩ ⟨"GrowingDoorModel", "readUnit", "()V"⟩) ∈ lw_all := lw_g (lw_at lw_ms 45 rfl) rfl
theorem qs46 : (Cond.selects "GrowingDoorModel" ⟨"GrowingDoorModel", "opensOne", "(I)V"⟩ ⟨"GrowingDoorModel", "opensOne", "(I)V"⟩) ∈ lw_all := lw_g (lw_at lw_ms 46 rfl) rfl
theorem qs47 : (Cond.selects "GrowingDoorModel" ⟨"GrowingDoorModel", "emit", "(II)V"⟩ ⟨"GrowingDoorModel", "emit", "(II)V"⟩) ∈ lw_all := lw_g (lw_at lw_ms 47 rfl) rfl
theorem qs48 : (Cond.selects "GrowingDoorModel" ⟨"GrowingDoorModel", "readTwo", "(II)V"⟩ ⟨"GrowingDoorModel", "readTwo", "(II)V"⟩) ∈ lw_all := lw_g (lw_at lw_ms 48 rfl) rfl
theorem qs49 : (Cond.selects "GrowingDoorModel" ⟨"GrowingDoorModel", "factHere", "()I"⟩ ⟨"GrowingDoorModel", "factHere", "()I"⟩) ∈ lw_all := lw_g (lw_at lw_ms 49 rfl) rfl
theorem qs50 : (Cond.selects "GrowingDoorModel" ⟨"GrowingDoorModel", "readStep", "()V"⟩ ⟨"GrowingDoorModel", "readStep", "()V"⟩) ∈ lw_all := lw_g (lw_at lw_ms 50 rfl) rfl
theorem qs51 : (Cond.selects "GrowingDoorModel" ⟨"GrowingDoorModel", "tellsStep", "(III)V"⟩ ⟨"GrowingDoorModel", "tellsStep", "(III)V"⟩) ∈ lw_all := lw_g (lw_at lw_ms 51 rfl) rfl
theorem qs52 : (Cond.selects "GrowingDoorModel" ⟨"GrowingDoorModel", "take", "()V"⟩ ⟨"GrowingDoorModel", "take", "()V"⟩) ∈ lw_all := lw_g (lw_at lw_ms 52 rfl) rfl
theorem qs53 : (Cond.selects "GrowingDoorModel" ⟨"GrowingDoorModel", "goesSteps", "(II)V"⟩ ⟨"GrowingDoorModel", "goesSteps", "(II)V"⟩) ∈ lw_all := lw_g (lw_at lw_ms 53 rfl) rfl
theorem qs54 : (Cond.selects "GrowingDoorModel" ⟨"GrowingDoorModel", "isDone", "(III)Z"⟩ ⟨"GrowingDoorModel", "isDone", "(III)Z"⟩) ∈ lw_all := lw_g (lw_at lw_ms 54 rfl) rfl
theorem qs55 : (Cond.selects "GrowingDoorModel" ⟨"GrowingDoorModel", "cuts", "(I)Z"⟩ ⟨"GrowingDoorModel", "cuts", "(I)Z"⟩) ∈ lw_all := lw_g (lw_at lw_ms 55 rfl) rfl
theorem qs56 : (Cond.selects "GrowingDoorModel" ⟨"GrowingDoorModel", "boardAt", "(I)I"⟩ ⟨"GrowingDoorModel", "boardAt", "(I)I"⟩) ∈ lw_all := lw_g (lw_at lw_ms 56 rfl) rfl
theorem qs57 : (Cond.selects "GrowingDoorModel" ⟨"GrowingDoorModel", "below", "(I)I"⟩ ⟨"GrowingDoorModel", "below", "(I)I"⟩) ∈ lw_all := lw_g (lw_at lw_ms 57 rfl) rfl
theorem qs58 : (Cond.selects "GrowingDoorModel" ⟨"GrowingDoorModel", "becomes", "(II)Z"⟩ ⟨"GrowingDoorModel", "becomes", "(II)Z"⟩) ∈ lw_all := lw_g (lw_at lw_ms 58 rfl) rfl
theorem qs59 : (Cond.selects "GrowingDoorModel" ⟨"GrowingDoorModel", "planed", "(II)Z"⟩ ⟨"GrowingDoorModel", "planed", "(II)Z"⟩) ∈ lw_all := lw_g (lw_at lw_ms 59 rfl) rfl
theorem qs60 : (Cond.selects "GrowingDoorModel" ⟨"GrowingDoorModel", "goesOn", "()V"⟩ ⟨"GrowingDoorModel", "goesOn", "()V"⟩) ∈ lw_all := lw_g (lw_at lw_ms 60 rfl) rfl
theorem qs61 : (Cond.selects "GrowingDoorModel" ⟨"GrowingDoorModel", "growsBy", "(I)I"⟩ ⟨"GrowingDoorModel", "growsBy", "(I)I"⟩) ∈ lw_all := lw_g (lw_at lw_ms 61 rfl) rfl
theorem qs62 : (Cond.selects "GrowingDoorModel" ⟨"GrowingDoorModel", "rainNow", "()I"⟩ ⟨"GrowingDoorModel", "rainNow", "()I"⟩) ∈ lw_all := lw_g (lw_at lw_ms 62 rfl) rfl
theorem qs63 : (Cond.selects "GrowingDoorModel" ⟨"GrowingDoorModel", "gainOf", "(I)I"⟩ ⟨"GrowingDoorModel", "gainOf", "(I)I"⟩) ∈ lw_all := lw_g (lw_at lw_ms 63 rfl) rfl
theorem qs64 : (Cond.selects "GrowingDoorModel" ⟨"GrowingDoorModel", "isAt", "(I)I"⟩ ⟨"GrowingDoorModel", "isAt", "(I)I"⟩) ∈ lw_all := lw_g (lw_at lw_ms 64 rfl) rfl
theorem qs65 : (Cond.selects "GrowingDoorModel" ⟨"GrowingDoorModel", "growsOf", "(IIIIIIII)I"⟩ ⟨"GrowingDoorModel", "growsOf", "(IIIIIIII)I"⟩) ∈ lw_all := lw_g (lw_at lw_ms 65 rfl) rfl
theorem qs66 : (Cond.selects "GrowingDoorModel" ⟨"GrowingDoorModel", "growsNow", "()I"⟩ ⟨"GrowingDoorModel", "growsNow", "()I"⟩) ∈ lw_all := lw_g (lw_at lw_ms 66 rfl) rfl
theorem qs67 : (Cond.selects "GrowingDoorModel" ⟨"GrowingDoorModel", "valueNow", "()I"⟩ ⟨"GrowingDoorModel", "valueNow", "()I"⟩) ∈ lw_all := lw_g (lw_at lw_ms 67 rfl) rfl
theorem qs68 : (Cond.selects "GrowingDoorModel" ⟨"GrowingDoorModel", "swellsOf", "(I)I"⟩ ⟨"GrowingDoorModel", "swellsOf", "(I)I"⟩) ∈ lw_all := lw_g (lw_at lw_ms 68 rfl) rfl
theorem qs69 : (Cond.selects "GrowingDoorModel" ⟨"GrowingDoorModel", "bitsTold", "(I)I"⟩ ⟨"GrowingDoorModel", "bitsTold", "(I)I"⟩) ∈ lw_all := lw_g (lw_at lw_ms 69 rfl) rfl
theorem qs70 : (Cond.selects "GrowingDoorModel" ⟨"GrowingDoorModel", "famousNow", "()I"⟩ ⟨"GrowingDoorModel", "famousNow", "()I"⟩) ∈ lw_all := lw_g (lw_at lw_ms 70 rfl) rfl
theorem qs71 : (Cond.selects "GrowingDoorModel" ⟨"GrowingDoorModel", "isBoard", "(II)Z"⟩ ⟨"GrowingDoorModel", "isBoard", "(II)Z"⟩) ∈ lw_all := lw_g (lw_at lw_ms 71 rfl) rfl
theorem qs72 : (Cond.selects "GrowingDoorModel" ⟨"GrowingDoorModel", "isBoy", "(II)Z"⟩ ⟨"GrowingDoorModel", "isBoy", "(II)Z"⟩) ∈ lw_all := lw_g (lw_at lw_ms 72 rfl) rfl
theorem qs73 : (Cond.selects "GrowingDoorModel" ⟨"GrowingDoorModel", "highAll", "()I"⟩ ⟨"GrowingDoorModel", "highAll", "()I"⟩) ∈ lw_all := lw_g (lw_at lw_ms 73 rfl) rfl
theorem qs74 : (Cond.selects "GrowingDoorModel" ⟨"GrowingDoorModel", "findMates", "()I"⟩ ⟨"GrowingDoorModel", "findMates", "()I"⟩) ∈ lw_all := lw_g (lw_at lw_ms 74 rfl) rfl
theorem qs75 : (Cond.selects "GrowingDoorModel" ⟨"GrowingDoorModel", "layMates", "(II)I"⟩ ⟨"GrowingDoorModel", "layMates", "(II)I"⟩) ∈ lw_all := lw_g (lw_at lw_ms 75 rfl) rfl
theorem qs76 : (Cond.selects "GrowingDoorModel" ⟨"GrowingDoorModel", "far", "(II)I"⟩ ⟨"GrowingDoorModel", "far", "(II)I"⟩) ∈ lw_all := lw_g (lw_at lw_ms 76 rfl) rfl
theorem qs77 : (Cond.selects "GrowingDoorModel" ⟨"GrowingDoorModel", "thereNow", "()I"⟩ ⟨"GrowingDoorModel", "thereNow", "()I"⟩) ∈ lw_all := lw_g (lw_at lw_ms 77 rfl) rfl
theorem qs78 : (Cond.selects "GrowingDoorModel" ⟨"GrowingDoorModel", "layLadder", "()I"⟩ ⟨"GrowingDoorModel", "layLadder", "()I"⟩) ∈ lw_all := lw_g (lw_at lw_ms 78 rfl) rfl
theorem qs79 : (Cond.selects "GrowingDoorModel" ⟨"GrowingDoorModel", "findPairs", "(I)V"⟩ ⟨"GrowingDoorModel", "findPairs", "(I)V"⟩) ∈ lw_all := lw_g (lw_at lw_ms 79 rfl) rfl
theorem qs80 : (Cond.selects "GrowingDoorModel" ⟨"GrowingDoorModel", "chairsBy", "(II)I"⟩ ⟨"GrowingDoorModel", "chairsBy", "(II)I"⟩) ∈ lw_all := lw_g (lw_at lw_ms 80 rfl) rfl
theorem qs81 : (Cond.selects "GrowingDoorModel" ⟨"GrowingDoorModel", "decadeGoes", "(III)V"⟩ ⟨"GrowingDoorModel", "decadeGoes", "(III)V"⟩) ∈ lw_all := lw_g (lw_at lw_ms 81 rfl) rfl
theorem qs82 : (Cond.selects "GrowingDoorModel" ⟨"GrowingDoorModel", "draws", "(I)I"⟩ ⟨"GrowingDoorModel", "draws", "(I)I"⟩) ∈ lw_all := lw_g (lw_at lw_ms 82 rfl) rfl
theorem qs83 : (Cond.selects "GrowingDoorModel" ⟨"GrowingDoorModel", "keepsAll", "(IZ)V"⟩ ⟨"GrowingDoorModel", "keepsAll", "(IZ)V"⟩) ∈ lw_all := lw_g (lw_at lw_ms 83 rfl) rfl
theorem qs84 : (Cond.selects "GrowingDoorModel" ⟨"GrowingDoorModel", "keepsRow", "(I[IIZ)I"⟩ ⟨"GrowingDoorModel", "keepsRow", "(I[IIZ)I"⟩) ∈ lw_all := lw_g (lw_at lw_ms 84 rfl) rfl
-- ===== end of PART A; then your names; then what follows =====

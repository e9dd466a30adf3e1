/-! GrowingDoorLaw -/
set_option maxRecDepth 100000
def RX0 : String := "GrowingDoorLaw"
abbrev cX0_school : ByteArray := method_3_code
def yX0_school : MethodName := ⟨RX0, "school", "(LGrowingDoor;I[J)I"⟩
def dkwX0_school_0 : List UInt8 := [44, 3, 42, 27, 182, 0, 7, 133, 80, 167, 0, 6, 78, 4, 172, 3, 172]
abbrev dktX0_school_0 : List UInt8 := dkwX0_school_0 ++ []
theorem dksX0_school_0 : cX0_school.data.toList.drop 0 = dktX0_school_0 := by decide +kernel
theorem dX0_school_0 : decode cX0_school 0 = .ok (.aload_n 2, 1) := dk_44 (dk_at dksX0_school_0 0 rfl rfl)
theorem dX0_school_1 : decode cX0_school 1 = .ok (.iconst 0, 1) := dk_3 (dk_at dksX0_school_0 1 rfl rfl)
theorem dX0_school_2 : decode cX0_school 2 = .ok (.aload_n 0, 1) := dk_42 (dk_at dksX0_school_0 2 rfl rfl)
theorem dX0_school_3 : decode cX0_school 3 = .ok (.iload_n 1, 1) := dk_27 (dk_at dksX0_school_0 3 rfl rfl)
theorem dX0_school_4 : decode cX0_school 4 = .ok (.invokevirtual 7, 3) := dk_182 0 7 (dk_at dksX0_school_0 4 rfl rfl)
theorem dX0_school_7 : decode cX0_school 7 = .ok (.i2l, 1) := dk_133 (dk_at dksX0_school_0 7 rfl rfl)
theorem dX0_school_8 : decode cX0_school 8 = .ok (.lastore, 1) := dk_80 (dk_at dksX0_school_0 8 rfl rfl)
theorem dX0_school_9 : decode cX0_school 9 = .ok (.goto 6, 3) := dk_167 0 6 (dk_at dksX0_school_0 9 rfl rfl)
theorem dX0_school_12 : decode cX0_school 12 = .ok (.astore_n 3, 1) := dk_78 (dk_at dksX0_school_0 12 rfl rfl)
theorem dX0_school_13 : decode cX0_school 13 = .ok (.iconst 1, 1) := dk_4 (dk_at dksX0_school_0 13 rfl rfl)
theorem dX0_school_14 : decode cX0_school 14 = .ok (.ireturn, 1) := dk_172 (dk_at dksX0_school_0 14 rfl rfl)
theorem dX0_school_15 : decode cX0_school 15 = .ok (.iconst 0, 1) := dk_3 (dk_at dksX0_school_0 15 rfl rfl)
theorem dX0_school_16 : decode cX0_school 16 = .ok (.ireturn, 1) := dk_172 (dk_at dksX0_school_0 16 rfl rfl)
abbrev cX0_law : ByteArray := method_4_code
def yX0_law : MethodName := ⟨RX0, "law", "(LGrowingDoor;I[J)I"⟩
def dkwX0_law_0 : List UInt8 := [44, 3, 42, 27, 182, 0, 15, 133, 80, 167, 0, 6, 78, 4, 172, 3, 172]
abbrev dktX0_law_0 : List UInt8 := dkwX0_law_0 ++ []
theorem dksX0_law_0 : cX0_law.data.toList.drop 0 = dktX0_law_0 := by decide +kernel
theorem dX0_law_0 : decode cX0_law 0 = .ok (.aload_n 2, 1) := dk_44 (dk_at dksX0_law_0 0 rfl rfl)
theorem dX0_law_1 : decode cX0_law 1 = .ok (.iconst 0, 1) := dk_3 (dk_at dksX0_law_0 1 rfl rfl)
theorem dX0_law_2 : decode cX0_law 2 = .ok (.aload_n 0, 1) := dk_42 (dk_at dksX0_law_0 2 rfl rfl)
theorem dX0_law_3 : decode cX0_law 3 = .ok (.iload_n 1, 1) := dk_27 (dk_at dksX0_law_0 3 rfl rfl)
theorem dX0_law_4 : decode cX0_law 4 = .ok (.invokevirtual 15, 3) := dk_182 0 15 (dk_at dksX0_law_0 4 rfl rfl)
theorem dX0_law_7 : decode cX0_law 7 = .ok (.i2l, 1) := dk_133 (dk_at dksX0_law_0 7 rfl rfl)
theorem dX0_law_8 : decode cX0_law 8 = .ok (.lastore, 1) := dk_80 (dk_at dksX0_law_0 8 rfl rfl)
theorem dX0_law_9 : decode cX0_law 9 = .ok (.goto 6, 3) := dk_167 0 6 (dk_at dksX0_law_0 9 rfl rfl)
theorem dX0_law_12 : decode cX0_law 12 = .ok (.astore_n 3, 1) := dk_78 (dk_at dksX0_law_0 12 rfl rfl)
theorem dX0_law_13 : decode cX0_law 13 = .ok (.iconst 1, 1) := dk_4 (dk_at dksX0_law_0 13 rfl rfl)
theorem dX0_law_14 : decode cX0_law 14 = .ok (.ireturn, 1) := dk_172 (dk_at dksX0_law_0 14 rfl rfl)
theorem dX0_law_15 : decode cX0_law 15 = .ok (.iconst 0, 1) := dk_3 (dk_at dksX0_law_0 15 rfl rfl)
theorem dX0_law_16 : decode cX0_law 16 = .ok (.ireturn, 1) := dk_172 (dk_at dksX0_law_0 16 rfl rfl)
abbrev cX0_work : ByteArray := method_5_code
def yX0_work : MethodName := ⟨RX0, "work", "(LGrowingDoor;I[J)I"⟩
def dkwX0_work_0 : List UInt8 := [44, 3, 42, 27, 182, 0, 18, 133, 80, 167, 0, 6, 78, 4, 172, 3, 172]
abbrev dktX0_work_0 : List UInt8 := dkwX0_work_0 ++ []
theorem dksX0_work_0 : cX0_work.data.toList.drop 0 = dktX0_work_0 := by decide +kernel
theorem dX0_work_0 : decode cX0_work 0 = .ok (.aload_n 2, 1) := dk_44 (dk_at dksX0_work_0 0 rfl rfl)
theorem dX0_work_1 : decode cX0_work 1 = .ok (.iconst 0, 1) := dk_3 (dk_at dksX0_work_0 1 rfl rfl)
theorem dX0_work_2 : decode cX0_work 2 = .ok (.aload_n 0, 1) := dk_42 (dk_at dksX0_work_0 2 rfl rfl)
theorem dX0_work_3 : decode cX0_work 3 = .ok (.iload_n 1, 1) := dk_27 (dk_at dksX0_work_0 3 rfl rfl)
theorem dX0_work_4 : decode cX0_work 4 = .ok (.invokevirtual 18, 3) := dk_182 0 18 (dk_at dksX0_work_0 4 rfl rfl)
theorem dX0_work_7 : decode cX0_work 7 = .ok (.i2l, 1) := dk_133 (dk_at dksX0_work_0 7 rfl rfl)
theorem dX0_work_8 : decode cX0_work 8 = .ok (.lastore, 1) := dk_80 (dk_at dksX0_work_0 8 rfl rfl)
theorem dX0_work_9 : decode cX0_work 9 = .ok (.goto 6, 3) := dk_167 0 6 (dk_at dksX0_work_0 9 rfl rfl)
theorem dX0_work_12 : decode cX0_work 12 = .ok (.astore_n 3, 1) := dk_78 (dk_at dksX0_work_0 12 rfl rfl)
theorem dX0_work_13 : decode cX0_work 13 = .ok (.iconst 1, 1) := dk_4 (dk_at dksX0_work_0 13 rfl rfl)
theorem dX0_work_14 : decode cX0_work 14 = .ok (.ireturn, 1) := dk_172 (dk_at dksX0_work_0 14 rfl rfl)
theorem dX0_work_15 : decode cX0_work 15 = .ok (.iconst 0, 1) := dk_3 (dk_at dksX0_work_0 15 rfl rfl)
theorem dX0_work_16 : decode cX0_work 16 = .ok (.ireturn, 1) := dk_172 (dk_at dksX0_work_0 16 rfl rfl)
abbrev cX0_book : ByteArray := method_6_code
def yX0_book : MethodName := ⟨RX0, "book", "(LGrowingDoor;I[J)I"⟩
def dkwX0_book_0 : List UInt8 := [44, 3, 42, 27, 182, 0, 21, 133, 80, 167, 0, 6, 78, 4, 172, 3, 172]
abbrev dktX0_book_0 : List UInt8 := dkwX0_book_0 ++ []
theorem dksX0_book_0 : cX0_book.data.toList.drop 0 = dktX0_book_0 := by decide +kernel
theorem dX0_book_0 : decode cX0_book 0 = .ok (.aload_n 2, 1) := dk_44 (dk_at dksX0_book_0 0 rfl rfl)
theorem dX0_book_1 : decode cX0_book 1 = .ok (.iconst 0, 1) := dk_3 (dk_at dksX0_book_0 1 rfl rfl)
theorem dX0_book_2 : decode cX0_book 2 = .ok (.aload_n 0, 1) := dk_42 (dk_at dksX0_book_0 2 rfl rfl)
theorem dX0_book_3 : decode cX0_book 3 = .ok (.iload_n 1, 1) := dk_27 (dk_at dksX0_book_0 3 rfl rfl)
theorem dX0_book_4 : decode cX0_book 4 = .ok (.invokevirtual 21, 3) := dk_182 0 21 (dk_at dksX0_book_0 4 rfl rfl)
theorem dX0_book_7 : decode cX0_book 7 = .ok (.i2l, 1) := dk_133 (dk_at dksX0_book_0 7 rfl rfl)
theorem dX0_book_8 : decode cX0_book 8 = .ok (.lastore, 1) := dk_80 (dk_at dksX0_book_0 8 rfl rfl)
theorem dX0_book_9 : decode cX0_book 9 = .ok (.goto 6, 3) := dk_167 0 6 (dk_at dksX0_book_0 9 rfl rfl)
theorem dX0_book_12 : decode cX0_book 12 = .ok (.astore_n 3, 1) := dk_78 (dk_at dksX0_book_0 12 rfl rfl)
theorem dX0_book_13 : decode cX0_book 13 = .ok (.iconst 1, 1) := dk_4 (dk_at dksX0_book_0 13 rfl rfl)
theorem dX0_book_14 : decode cX0_book 14 = .ok (.ireturn, 1) := dk_172 (dk_at dksX0_book_0 14 rfl rfl)
theorem dX0_book_15 : decode cX0_book 15 = .ok (.iconst 0, 1) := dk_3 (dk_at dksX0_book_0 15 rfl rfl)
theorem dX0_book_16 : decode cX0_book 16 = .ok (.ireturn, 1) := dk_172 (dk_at dksX0_book_0 16 rfl rfl)
abbrev cX0_told : ByteArray := method_7_code
def yX0_told : MethodName := ⟨RX0, "told", "(LGrowingDoor;I[J)I"⟩
def dkwX0_told_0 : List UInt8 := [44, 3, 42, 27, 182, 0, 24, 133, 80, 167, 0, 6, 78, 4, 172, 3, 172]
abbrev dktX0_told_0 : List UInt8 := dkwX0_told_0 ++ []
theorem dksX0_told_0 : cX0_told.data.toList.drop 0 = dktX0_told_0 := by decide +kernel
theorem dX0_told_0 : decode cX0_told 0 = .ok (.aload_n 2, 1) := dk_44 (dk_at dksX0_told_0 0 rfl rfl)
theorem dX0_told_1 : decode cX0_told 1 = .ok (.iconst 0, 1) := dk_3 (dk_at dksX0_told_0 1 rfl rfl)
theorem dX0_told_2 : decode cX0_told 2 = .ok (.aload_n 0, 1) := dk_42 (dk_at dksX0_told_0 2 rfl rfl)
theorem dX0_told_3 : decode cX0_told 3 = .ok (.iload_n 1, 1) := dk_27 (dk_at dksX0_told_0 3 rfl rfl)
theorem dX0_told_4 : decode cX0_told 4 = .ok (.invokevirtual 24, 3) := dk_182 0 24 (dk_at dksX0_told_0 4 rfl rfl)
theorem dX0_told_7 : decode cX0_told 7 = .ok (.i2l, 1) := dk_133 (dk_at dksX0_told_0 7 rfl rfl)
theorem dX0_told_8 : decode cX0_told 8 = .ok (.lastore, 1) := dk_80 (dk_at dksX0_told_0 8 rfl rfl)
theorem dX0_told_9 : decode cX0_told 9 = .ok (.goto 6, 3) := dk_167 0 6 (dk_at dksX0_told_0 9 rfl rfl)
theorem dX0_told_12 : decode cX0_told 12 = .ok (.astore_n 3, 1) := dk_78 (dk_at dksX0_told_0 12 rfl rfl)
theorem dX0_told_13 : decode cX0_told 13 = .ok (.iconst 1, 1) := dk_4 (dk_at dksX0_told_0 13 rfl rfl)
theorem dX0_told_14 : decode cX0_told 14 = .ok (.ireturn, 1) := dk_172 (dk_at dksX0_told_0 14 rfl rfl)
theorem dX0_told_15 : decode cX0_told 15 = .ok (.iconst 0, 1) := dk_3 (dk_at dksX0_told_0 15 rfl rfl)
theorem dX0_told_16 : decode cX0_told 16 = .ok (.ireturn, 1) := dk_172 (dk_at dksX0_told_0 16 rfl rfl)
abbrev cX0_board : ByteArray := method_8_code
def yX0_board : MethodName := ⟨RX0, "board", "(LGrowingDoor;II[J)I"⟩
def dkwX0_board_0 : List UInt8 := [45, 3, 42, 27, 28, 182, 0, 27, 133, 80, 167, 0, 11, 58, 4, 4, 172, 58, 4, 5, 172, 3, 172]
abbrev dktX0_board_0 : List UInt8 := dkwX0_board_0 ++ []
theorem dksX0_board_0 : cX0_board.data.toList.drop 0 = dktX0_board_0 := by decide +kernel
theorem dX0_board_0 : decode cX0_board 0 = .ok (.aload_n 3, 1) := dk_45 (dk_at dksX0_board_0 0 rfl rfl)
theorem dX0_board_1 : decode cX0_board 1 = .ok (.iconst 0, 1) := dk_3 (dk_at dksX0_board_0 1 rfl rfl)
theorem dX0_board_2 : decode cX0_board 2 = .ok (.aload_n 0, 1) := dk_42 (dk_at dksX0_board_0 2 rfl rfl)
theorem dX0_board_3 : decode cX0_board 3 = .ok (.iload_n 1, 1) := dk_27 (dk_at dksX0_board_0 3 rfl rfl)
theorem dX0_board_4 : decode cX0_board 4 = .ok (.iload_n 2, 1) := dk_28 (dk_at dksX0_board_0 4 rfl rfl)
theorem dX0_board_5 : decode cX0_board 5 = .ok (.invokevirtual 27, 3) := dk_182 0 27 (dk_at dksX0_board_0 5 rfl rfl)
theorem dX0_board_8 : decode cX0_board 8 = .ok (.i2l, 1) := dk_133 (dk_at dksX0_board_0 8 rfl rfl)
theorem dX0_board_9 : decode cX0_board 9 = .ok (.lastore, 1) := dk_80 (dk_at dksX0_board_0 9 rfl rfl)
theorem dX0_board_10 : decode cX0_board 10 = .ok (.goto 11, 3) := dk_167 0 11 (dk_at dksX0_board_0 10 rfl rfl)
theorem dX0_board_13 : decode cX0_board 13 = .ok (.astore 4, 2) := dk_58 4 (dk_at dksX0_board_0 13 rfl rfl)
theorem dX0_board_15 : decode cX0_board 15 = .ok (.iconst 1, 1) := dk_4 (dk_at dksX0_board_0 15 rfl rfl)
theorem dX0_board_16 : decode cX0_board 16 = .ok (.ireturn, 1) := dk_172 (dk_at dksX0_board_0 16 rfl rfl)
theorem dX0_board_17 : decode cX0_board 17 = .ok (.astore 4, 2) := dk_58 4 (dk_at dksX0_board_0 17 rfl rfl)
theorem dX0_board_19 : decode cX0_board 19 = .ok (.iconst 2, 1) := dk_5 (dk_at dksX0_board_0 19 rfl rfl)
theorem dX0_board_20 : decode cX0_board 20 = .ok (.ireturn, 1) := dk_172 (dk_at dksX0_board_0 20 rfl rfl)
theorem dX0_board_21 : decode cX0_board 21 = .ok (.iconst 0, 1) := dk_3 (dk_at dksX0_board_0 21 rfl rfl)
theorem dX0_board_22 : decode cX0_board 22 = .ok (.ireturn, 1) := dk_172 (dk_at dksX0_board_0 22 rfl rfl)
abbrev cX0_boy : ByteArray := method_9_code
def yX0_boy : MethodName := ⟨RX0, "boy", "(LGrowingDoor;II[J)I"⟩
def dkwX0_boy_0 : List UInt8 := [45, 3, 42, 27, 28, 182, 0, 33, 133, 80, 167, 0, 11, 58, 4, 4, 172, 58, 4, 5, 172, 3, 172]
abbrev dktX0_boy_0 : List UInt8 := dkwX0_boy_0 ++ []
theorem dksX0_boy_0 : cX0_boy.data.toList.drop 0 = dktX0_boy_0 := by decide +kernel
theorem dX0_boy_0 : decode cX0_boy 0 = .ok (.aload_n 3, 1) := dk_45 (dk_at dksX0_boy_0 0 rfl rfl)
theorem dX0_boy_1 : decode cX0_boy 1 = .ok (.iconst 0, 1) := dk_3 (dk_at dksX0_boy_0 1 rfl rfl)
theorem dX0_boy_2 : decode cX0_boy 2 = .ok (.aload_n 0, 1) := dk_42 (dk_at dksX0_boy_0 2 rfl rfl)
theorem dX0_boy_3 : decode cX0_boy 3 = .ok (.iload_n 1, 1) := dk_27 (dk_at dksX0_boy_0 3 rfl rfl)
theorem dX0_boy_4 : decode cX0_boy 4 = .ok (.iload_n 2, 1) := dk_28 (dk_at dksX0_boy_0 4 rfl rfl)
theorem dX0_boy_5 : decode cX0_boy 5 = .ok (.invokevirtual 33, 3) := dk_182 0 33 (dk_at dksX0_boy_0 5 rfl rfl)
theorem dX0_boy_8 : decode cX0_boy 8 = .ok (.i2l, 1) := dk_133 (dk_at dksX0_boy_0 8 rfl rfl)
theorem dX0_boy_9 : decode cX0_boy 9 = .ok (.lastore, 1) := dk_80 (dk_at dksX0_boy_0 9 rfl rfl)
theorem dX0_boy_10 : decode cX0_boy 10 = .ok (.goto 11, 3) := dk_167 0 11 (dk_at dksX0_boy_0 10 rfl rfl)
theorem dX0_boy_13 : decode cX0_boy 13 = .ok (.astore 4, 2) := dk_58 4 (dk_at dksX0_boy_0 13 rfl rfl)
theorem dX0_boy_15 : decode cX0_boy 15 = .ok (.iconst 1, 1) := dk_4 (dk_at dksX0_boy_0 15 rfl rfl)
theorem dX0_boy_16 : decode cX0_boy 16 = .ok (.ireturn, 1) := dk_172 (dk_at dksX0_boy_0 16 rfl rfl)
theorem dX0_boy_17 : decode cX0_boy 17 = .ok (.astore 4, 2) := dk_58 4 (dk_at dksX0_boy_0 17 rfl rfl)
theorem dX0_boy_19 : decode cX0_boy 19 = .ok (.iconst 2, 1) := dk_5 (dk_at dksX0_boy_0 19 rfl rfl)
theorem dX0_boy_20 : decode cX0_boy 20 = .ok (.ireturn, 1) := dk_172 (dk_at dksX0_boy_0 20 rfl rfl)
theorem dX0_boy_21 : decode cX0_boy 21 = .ok (.iconst 0, 1) := dk_3 (dk_at dksX0_boy_0 21 rfl rfl)
theorem dX0_boy_22 : decode cX0_boy 22 = .ok (.ireturn, 1) := dk_172 (dk_at dksX0_boy_0 22 rfl rfl)
abbrev cX0_grows : ByteArray := method_10_code
def yX0_grows : MethodName := ⟨RX0, "grows", "(LGrowingDoor;I[J)I"⟩
def dkwX0_grows_0 : List UInt8 := [44, 3, 42, 27, 182, 0, 36, 133, 80, 167, 0, 6, 78, 4, 172, 3, 172]
abbrev dktX0_grows_0 : List UInt8 := dkwX0_grows_0 ++ []
theorem dksX0_grows_0 : cX0_grows.data.toList.drop 0 = dktX0_grows_0 := by decide +kernel
theorem dX0_grows_0 : decode cX0_grows 0 = .ok (.aload_n 2, 1) := dk_44 (dk_at dksX0_grows_0 0 rfl rfl)
theorem dX0_grows_1 : decode cX0_grows 1 = .ok (.iconst 0, 1) := dk_3 (dk_at dksX0_grows_0 1 rfl rfl)
theorem dX0_grows_2 : decode cX0_grows 2 = .ok (.aload_n 0, 1) := dk_42 (dk_at dksX0_grows_0 2 rfl rfl)
theorem dX0_grows_3 : decode cX0_grows 3 = .ok (.iload_n 1, 1) := dk_27 (dk_at dksX0_grows_0 3 rfl rfl)
theorem dX0_grows_4 : decode cX0_grows 4 = .ok (.invokevirtual 36, 3) := dk_182 0 36 (dk_at dksX0_grows_0 4 rfl rfl)
theorem dX0_grows_7 : decode cX0_grows 7 = .ok (.i2l, 1) := dk_133 (dk_at dksX0_grows_0 7 rfl rfl)
theorem dX0_grows_8 : decode cX0_grows 8 = .ok (.lastore, 1) := dk_80 (dk_at dksX0_grows_0 8 rfl rfl)
theorem dX0_grows_9 : decode cX0_grows 9 = .ok (.goto 6, 3) := dk_167 0 6 (dk_at dksX0_grows_0 9 rfl rfl)
theorem dX0_grows_12 : decode cX0_grows 12 = .ok (.astore_n 3, 1) := dk_78 (dk_at dksX0_grows_0 12 rfl rfl)
theorem dX0_grows_13 : decode cX0_grows 13 = .ok (.iconst 1, 1) := dk_4 (dk_at dksX0_grows_0 13 rfl rfl)
theorem dX0_grows_14 : decode cX0_grows 14 = .ok (.ireturn, 1) := dk_172 (dk_at dksX0_grows_0 14 rfl rfl)
theorem dX0_grows_15 : decode cX0_grows 15 = .ok (.iconst 0, 1) := dk_3 (dk_at dksX0_grows_0 15 rfl rfl)
theorem dX0_grows_16 : decode cX0_grows 16 = .ok (.ireturn, 1) := dk_172 (dk_at dksX0_grows_0 16 rfl rfl)
abbrev cX0_would : ByteArray := method_11_code
def yX0_would : MethodName := ⟨RX0, "would", "(LGrowingDoor;IIIIIIII[J)I"⟩
def dkwX0_would_1 : List UInt8 := [167, 0, 7, 58, 10, 4, 172, 3, 172]
abbrev dktX0_would_1 : List UInt8 := dkwX0_would_1 ++ []
def dkwX0_would_0 : List UInt8 := [25, 9, 3, 42, 27, 28, 29, 21, 4, 21, 5, 21, 6, 21, 7, 21, 8, 182, 0, 39, 133, 80]
abbrev dktX0_would_0 : List UInt8 := dkwX0_would_0 ++ dktX0_would_1
theorem dksX0_would_0 : cX0_would.data.toList.drop 0 = dktX0_would_0 := by decide +kernel
theorem dksX0_would_1 : cX0_would.data.toList.drop 22 = dktX0_would_1 := dk_seg dksX0_would_0 22 rfl rfl
theorem dX0_would_0 : decode cX0_would 0 = .ok (.aload 9, 2) := dk_25 9 (dk_at dksX0_would_0 0 rfl rfl)
theorem dX0_would_2 : decode cX0_would 2 = .ok (.iconst 0, 1) := dk_3 (dk_at dksX0_would_0 2 rfl rfl)
theorem dX0_would_3 : decode cX0_would 3 = .ok (.aload_n 0, 1) := dk_42 (dk_at dksX0_would_0 3 rfl rfl)
theorem dX0_would_4 : decode cX0_would 4 = .ok (.iload_n 1, 1) := dk_27 (dk_at dksX0_would_0 4 rfl rfl)
theorem dX0_would_5 : decode cX0_would 5 = .ok (.iload_n 2, 1) := dk_28 (dk_at dksX0_would_0 5 rfl rfl)
theorem dX0_would_6 : decode cX0_would 6 = .ok (.iload_n 3, 1) := dk_29 (dk_at dksX0_would_0 6 rfl rfl)
theorem dX0_would_7 : decode cX0_would 7 = .ok (.iload 4, 2) := dk_21 4 (dk_at dksX0_would_0 7 rfl rfl)
theorem dX0_would_9 : decode cX0_would 9 = .ok (.iload 5, 2) := dk_21 5 (dk_at dksX0_would_0 9 rfl rfl)
theorem dX0_would_11 : decode cX0_would 11 = .ok (.iload 6, 2) := dk_21 6 (dk_at dksX0_would_0 11 rfl rfl)
theorem dX0_would_13 : decode cX0_would 13 = .ok (.iload 7, 2) := dk_21 7 (dk_at dksX0_would_0 13 rfl rfl)
theorem dX0_would_15 : decode cX0_would 15 = .ok (.iload 8, 2) := dk_21 8 (dk_at dksX0_would_0 15 rfl rfl)
theorem dX0_would_17 : decode cX0_would 17 = .ok (.invokevirtual 39, 3) := dk_182 0 39 (dk_at dksX0_would_0 17 rfl rfl)
theorem dX0_would_20 : decode cX0_would 20 = .ok (.i2l, 1) := dk_133 (dk_at dksX0_would_0 20 rfl rfl)
theorem dX0_would_21 : decode cX0_would 21 = .ok (.lastore, 1) := dk_80 (dk_at dksX0_would_0 21 rfl rfl)
theorem dX0_would_22 : decode cX0_would 22 = .ok (.goto 7, 3) := dk_167 0 7 (dk_at dksX0_would_1 0 rfl rfl)
theorem dX0_would_25 : decode cX0_would 25 = .ok (.astore 10, 2) := dk_58 10 (dk_at dksX0_would_1 3 rfl rfl)
theorem dX0_would_27 : decode cX0_would 27 = .ok (.iconst 1, 1) := dk_4 (dk_at dksX0_would_1 5 rfl rfl)
theorem dX0_would_28 : decode cX0_would 28 = .ok (.ireturn, 1) := dk_172 (dk_at dksX0_would_1 6 rfl rfl)
theorem dX0_would_29 : decode cX0_would 29 = .ok (.iconst 0, 1) := dk_3 (dk_at dksX0_would_1 7 rfl rfl)
theorem dX0_would_30 : decode cX0_would 30 = .ok (.ireturn, 1) := dk_172 (dk_at dksX0_would_1 8 rfl rfl)
abbrev cX0_ahead : ByteArray := method_12_code
def yX0_ahead : MethodName := ⟨RX0, "ahead", "(LGrowingDoor;II[J)I"⟩
def dkwX0_ahead_0 : List UInt8 := [45, 3, 42, 27, 28, 182, 0, 43, 133, 80, 167, 0, 7, 58, 4, 4, 172, 3, 172]
abbrev dktX0_ahead_0 : List UInt8 := dkwX0_ahead_0 ++ []
theorem dksX0_ahead_0 : cX0_ahead.data.toList.drop 0 = dktX0_ahead_0 := by decide +kernel
theorem dX0_ahead_0 : decode cX0_ahead 0 = .ok (.aload_n 3, 1) := dk_45 (dk_at dksX0_ahead_0 0 rfl rfl)
theorem dX0_ahead_1 : decode cX0_ahead 1 = .ok (.iconst 0, 1) := dk_3 (dk_at dksX0_ahead_0 1 rfl rfl)
theorem dX0_ahead_2 : decode cX0_ahead 2 = .ok (.aload_n 0, 1) := dk_42 (dk_at dksX0_ahead_0 2 rfl rfl)
theorem dX0_ahead_3 : decode cX0_ahead 3 = .ok (.iload_n 1, 1) := dk_27 (dk_at dksX0_ahead_0 3 rfl rfl)
theorem dX0_ahead_4 : decode cX0_ahead 4 = .ok (.iload_n 2, 1) := dk_28 (dk_at dksX0_ahead_0 4 rfl rfl)
theorem dX0_ahead_5 : decode cX0_ahead 5 = .ok (.invokevirtual 43, 3) := dk_182 0 43 (dk_at dksX0_ahead_0 5 rfl rfl)
theorem dX0_ahead_8 : decode cX0_ahead 8 = .ok (.i2l, 1) := dk_133 (dk_at dksX0_ahead_0 8 rfl rfl)
theorem dX0_ahead_9 : decode cX0_ahead 9 = .ok (.lastore, 1) := dk_80 (dk_at dksX0_ahead_0 9 rfl rfl)
theorem dX0_ahead_10 : decode cX0_ahead 10 = .ok (.goto 7, 3) := dk_167 0 7 (dk_at dksX0_ahead_0 10 rfl rfl)
theorem dX0_ahead_13 : decode cX0_ahead 13 = .ok (.astore 4, 2) := dk_58 4 (dk_at dksX0_ahead_0 13 rfl rfl)
theorem dX0_ahead_15 : decode cX0_ahead 15 = .ok (.iconst 1, 1) := dk_4 (dk_at dksX0_ahead_0 15 rfl rfl)
theorem dX0_ahead_16 : decode cX0_ahead 16 = .ok (.ireturn, 1) := dk_172 (dk_at dksX0_ahead_0 16 rfl rfl)
theorem dX0_ahead_17 : decode cX0_ahead 17 = .ok (.iconst 0, 1) := dk_3 (dk_at dksX0_ahead_0 17 rfl rfl)
theorem dX0_ahead_18 : decode cX0_ahead 18 = .ok (.ireturn, 1) := dk_172 (dk_at dksX0_ahead_0 18 rfl rfl)
abbrev cX0_passes : ByteArray := method_13_code
def yX0_passes : MethodName := ⟨RX0, "passes", "(LGrowingDoor;II[J)I"⟩
def dkwX0_passes_0 : List UInt8 := [45, 3, 42, 27, 28, 182, 0, 46, 133, 80, 167, 0, 11, 58, 4, 4, 172, 58, 4, 5, 172, 3, 172]
abbrev dktX0_passes_0 : List UInt8 := dkwX0_passes_0 ++ []
theorem dksX0_passes_0 : cX0_passes.data.toList.drop 0 = dktX0_passes_0 := by decide +kernel
theorem dX0_passes_0 : decode cX0_passes 0 = .ok (.aload_n 3, 1) := dk_45 (dk_at dksX0_passes_0 0 rfl rfl)
theorem dX0_passes_1 : decode cX0_passes 1 = .ok (.iconst 0, 1) := dk_3 (dk_at dksX0_passes_0 1 rfl rfl)
theorem dX0_passes_2 : decode cX0_passes 2 = .ok (.aload_n 0, 1) := dk_42 (dk_at dksX0_passes_0 2 rfl rfl)
theorem dX0_passes_3 : decode cX0_passes 3 = .ok (.iload_n 1, 1) := dk_27 (dk_at dksX0_passes_0 3 rfl rfl)
theorem dX0_passes_4 : decode cX0_passes 4 = .ok (.iload_n 2, 1) := dk_28 (dk_at dksX0_passes_0 4 rfl rfl)
theorem dX0_passes_5 : decode cX0_passes 5 = .ok (.invokevirtual 46, 3) := dk_182 0 46 (dk_at dksX0_passes_0 5 rfl rfl)
theorem dX0_passes_8 : decode cX0_passes 8 = .ok (.i2l, 1) := dk_133 (dk_at dksX0_passes_0 8 rfl rfl)
theorem dX0_passes_9 : decode cX0_passes 9 = .ok (.lastore, 1) := dk_80 (dk_at dksX0_passes_0 9 rfl rfl)
theorem dX0_passes_10 : decode cX0_passes 10 = .ok (.goto 11, 3) := dk_167 0 11 (dk_at dksX0_passes_0 10 rfl rfl)
theorem dX0_passes_13 : decode cX0_passes 13 = .ok (.astore 4, 2) := dk_58 4 (dk_at dksX0_passes_0 13 rfl rfl)
theorem dX0_passes_15 : decode cX0_passes 15 = .ok (.iconst 1, 1) := dk_4 (dk_at dksX0_passes_0 15 rfl rfl)
theorem dX0_passes_16 : decode cX0_passes 16 = .ok (.ireturn, 1) := dk_172 (dk_at dksX0_passes_0 16 rfl rfl)
theorem dX0_passes_17 : decode cX0_passes 17 = .ok (.astore 4, 2) := dk_58 4 (dk_at dksX0_passes_0 17 rfl rfl)
theorem dX0_passes_19 : decode cX0_passes 19 = .ok (.iconst 2, 1) := dk_5 (dk_at dksX0_passes_0 19 rfl rfl)
theorem dX0_passes_20 : decode cX0_passes 20 = .ok (.ireturn, 1) := dk_172 (dk_at dksX0_passes_0 20 rfl rfl)
theorem dX0_passes_21 : decode cX0_passes 21 = .ok (.iconst 0, 1) := dk_3 (dk_at dksX0_passes_0 21 rfl rfl)
theorem dX0_passes_22 : decode cX0_passes 22 = .ok (.ireturn, 1) := dk_172 (dk_at dksX0_passes_0 22 rfl rfl)
abbrev cX0_feeds : ByteArray := method_14_code
def yX0_feeds : MethodName := ⟨RX0, "feeds", "(LGrowingDoor;II[J)I"⟩
def dkwX0_feeds_0 : List UInt8 := [45, 3, 42, 27, 28, 182, 0, 49, 133, 80, 167, 0, 11, 58, 4, 4, 172, 58, 4, 5, 172, 3, 172]
abbrev dktX0_feeds_0 : List UInt8 := dkwX0_feeds_0 ++ []
theorem dksX0_feeds_0 : cX0_feeds.data.toList.drop 0 = dktX0_feeds_0 := by decide +kernel
theorem dX0_feeds_0 : decode cX0_feeds 0 = .ok (.aload_n 3, 1) := dk_45 (dk_at dksX0_feeds_0 0 rfl rfl)
theorem dX0_feeds_1 : decode cX0_feeds 1 = .ok (.iconst 0, 1) := dk_3 (dk_at dksX0_feeds_0 1 rfl rfl)
theorem dX0_feeds_2 : decode cX0_feeds 2 = .ok (.aload_n 0, 1) := dk_42 (dk_at dksX0_feeds_0 2 rfl rfl)
theorem dX0_feeds_3 : decode cX0_feeds 3 = .ok (.iload_n 1, 1) := dk_27 (dk_at dksX0_feeds_0 3 rfl rfl)
theorem dX0_feeds_4 : decode cX0_feeds 4 = .ok (.iload_n 2, 1) := dk_28 (dk_at dksX0_feeds_0 4 rfl rfl)
theorem dX0_feeds_5 : decode cX0_feeds 5 = .ok (.invokevirtual 49, 3) := dk_182 0 49 (dk_at dksX0_feeds_0 5 rfl rfl)
theorem dX0_feeds_8 : decode cX0_feeds 8 = .ok (.i2l, 1) := dk_133 (dk_at dksX0_feeds_0 8 rfl rfl)
theorem dX0_feeds_9 : decode cX0_feeds 9 = .ok (.lastore, 1) := dk_80 (dk_at dksX0_feeds_0 9 rfl rfl)
theorem dX0_feeds_10 : decode cX0_feeds 10 = .ok (.goto 11, 3) := dk_167 0 11 (dk_at dksX0_feeds_0 10 rfl rfl)
theorem dX0_feeds_13 : decode cX0_feeds 13 = .ok (.astore 4, 2) := dk_58 4 (dk_at dksX0_feeds_0 13 rfl rfl)
theorem dX0_feeds_15 : decode cX0_feeds 15 = .ok (.iconst 1, 1) := dk_4 (dk_at dksX0_feeds_0 15 rfl rfl)
theorem dX0_feeds_16 : decode cX0_feeds 16 = .ok (.ireturn, 1) := dk_172 (dk_at dksX0_feeds_0 16 rfl rfl)
theorem dX0_feeds_17 : decode cX0_feeds 17 = .ok (.astore 4, 2) := dk_58 4 (dk_at dksX0_feeds_0 17 rfl rfl)
theorem dX0_feeds_19 : decode cX0_feeds 19 = .ok (.iconst 2, 1) := dk_5 (dk_at dksX0_feeds_0 19 rfl rfl)
theorem dX0_feeds_20 : decode cX0_feeds 20 = .ok (.ireturn, 1) := dk_172 (dk_at dksX0_feeds_0 20 rfl rfl)
theorem dX0_feeds_21 : decode cX0_feeds 21 = .ok (.iconst 0, 1) := dk_3 (dk_at dksX0_feeds_0 21 rfl rfl)
theorem dX0_feeds_22 : decode cX0_feeds 22 = .ok (.ireturn, 1) := dk_172 (dk_at dksX0_feeds_0 22 rfl rfl)
abbrev cX0_mate : ByteArray := method_15_code
def yX0_mate : MethodName := ⟨RX0, "mate", "(LGrowingDoor;I[J)I"⟩
def dkwX0_mate_0 : List UInt8 := [44, 3, 42, 27, 182, 0, 52, 133, 80, 167, 0, 6, 78, 4, 172, 3, 172]
abbrev dktX0_mate_0 : List UInt8 := dkwX0_mate_0 ++ []
theorem dksX0_mate_0 : cX0_mate.data.toList.drop 0 = dktX0_mate_0 := by decide +kernel
theorem dX0_mate_0 : decode cX0_mate 0 = .ok (.aload_n 2, 1) := dk_44 (dk_at dksX0_mate_0 0 rfl rfl)
theorem dX0_mate_1 : decode cX0_mate 1 = .ok (.iconst 0, 1) := dk_3 (dk_at dksX0_mate_0 1 rfl rfl)
theorem dX0_mate_2 : decode cX0_mate 2 = .ok (.aload_n 0, 1) := dk_42 (dk_at dksX0_mate_0 2 rfl rfl)
theorem dX0_mate_3 : decode cX0_mate 3 = .ok (.iload_n 1, 1) := dk_27 (dk_at dksX0_mate_0 3 rfl rfl)
theorem dX0_mate_4 : decode cX0_mate 4 = .ok (.invokevirtual 52, 3) := dk_182 0 52 (dk_at dksX0_mate_0 4 rfl rfl)
theorem dX0_mate_7 : decode cX0_mate 7 = .ok (.i2l, 1) := dk_133 (dk_at dksX0_mate_0 7 rfl rfl)
theorem dX0_mate_8 : decode cX0_mate 8 = .ok (.lastore, 1) := dk_80 (dk_at dksX0_mate_0 8 rfl rfl)
theorem dX0_mate_9 : decode cX0_mate 9 = .ok (.goto 6, 3) := dk_167 0 6 (dk_at dksX0_mate_0 9 rfl rfl)
theorem dX0_mate_12 : decode cX0_mate 12 = .ok (.astore_n 3, 1) := dk_78 (dk_at dksX0_mate_0 12 rfl rfl)
theorem dX0_mate_13 : decode cX0_mate 13 = .ok (.iconst 1, 1) := dk_4 (dk_at dksX0_mate_0 13 rfl rfl)
theorem dX0_mate_14 : decode cX0_mate 14 = .ok (.ireturn, 1) := dk_172 (dk_at dksX0_mate_0 14 rfl rfl)
theorem dX0_mate_15 : decode cX0_mate 15 = .ok (.iconst 0, 1) := dk_3 (dk_at dksX0_mate_0 15 rfl rfl)
theorem dX0_mate_16 : decode cX0_mate 16 = .ok (.ireturn, 1) := dk_172 (dk_at dksX0_mate_0 16 rfl rfl)
abbrev cX0_rung : ByteArray := method_16_code
def yX0_rung : MethodName := ⟨RX0, "rung", "(LGrowingDoor;I[J)I"⟩
def dkwX0_rung_0 : List UInt8 := [44, 3, 42, 27, 182, 0, 55, 133, 80, 167, 0, 6, 78, 4, 172, 3, 172]
abbrev dktX0_rung_0 : List UInt8 := dkwX0_rung_0 ++ []
theorem dksX0_rung_0 : cX0_rung.data.toList.drop 0 = dktX0_rung_0 := by decide +kernel
theorem dX0_rung_0 : decode cX0_rung 0 = .ok (.aload_n 2, 1) := dk_44 (dk_at dksX0_rung_0 0 rfl rfl)
theorem dX0_rung_1 : decode cX0_rung 1 = .ok (.iconst 0, 1) := dk_3 (dk_at dksX0_rung_0 1 rfl rfl)
theorem dX0_rung_2 : decode cX0_rung 2 = .ok (.aload_n 0, 1) := dk_42 (dk_at dksX0_rung_0 2 rfl rfl)
theorem dX0_rung_3 : decode cX0_rung 3 = .ok (.iload_n 1, 1) := dk_27 (dk_at dksX0_rung_0 3 rfl rfl)
theorem dX0_rung_4 : decode cX0_rung 4 = .ok (.invokevirtual 55, 3) := dk_182 0 55 (dk_at dksX0_rung_0 4 rfl rfl)
theorem dX0_rung_7 : decode cX0_rung 7 = .ok (.i2l, 1) := dk_133 (dk_at dksX0_rung_0 7 rfl rfl)
theorem dX0_rung_8 : decode cX0_rung 8 = .ok (.lastore, 1) := dk_80 (dk_at dksX0_rung_0 8 rfl rfl)
theorem dX0_rung_9 : decode cX0_rung 9 = .ok (.goto 6, 3) := dk_167 0 6 (dk_at dksX0_rung_0 9 rfl rfl)
theorem dX0_rung_12 : decode cX0_rung 12 = .ok (.astore_n 3, 1) := dk_78 (dk_at dksX0_rung_0 12 rfl rfl)
theorem dX0_rung_13 : decode cX0_rung 13 = .ok (.iconst 1, 1) := dk_4 (dk_at dksX0_rung_0 13 rfl rfl)
theorem dX0_rung_14 : decode cX0_rung 14 = .ok (.ireturn, 1) := dk_172 (dk_at dksX0_rung_0 14 rfl rfl)
theorem dX0_rung_15 : decode cX0_rung 15 = .ok (.iconst 0, 1) := dk_3 (dk_at dksX0_rung_0 15 rfl rfl)
theorem dX0_rung_16 : decode cX0_rung 16 = .ok (.ireturn, 1) := dk_172 (dk_at dksX0_rung_0 16 rfl rfl)
abbrev cX0_fits : ByteArray := method_17_code
def yX0_fits : MethodName := ⟨RX0, "fits", "(LGrowingDoor;II[J)I"⟩
def dkwX0_fits_0 : List UInt8 := [45, 3, 42, 27, 28, 182, 0, 58, 133, 80, 167, 0, 11, 58, 4, 4, 172, 58, 4, 5, 172, 3, 172]
abbrev dktX0_fits_0 : List UInt8 := dkwX0_fits_0 ++ []
theorem dksX0_fits_0 : cX0_fits.data.toList.drop 0 = dktX0_fits_0 := by decide +kernel
theorem dX0_fits_0 : decode cX0_fits 0 = .ok (.aload_n 3, 1) := dk_45 (dk_at dksX0_fits_0 0 rfl rfl)
theorem dX0_fits_1 : decode cX0_fits 1 = .ok (.iconst 0, 1) := dk_3 (dk_at dksX0_fits_0 1 rfl rfl)
theorem dX0_fits_2 : decode cX0_fits 2 = .ok (.aload_n 0, 1) := dk_42 (dk_at dksX0_fits_0 2 rfl rfl)
theorem dX0_fits_3 : decode cX0_fits 3 = .ok (.iload_n 1, 1) := dk_27 (dk_at dksX0_fits_0 3 rfl rfl)
theorem dX0_fits_4 : decode cX0_fits 4 = .ok (.iload_n 2, 1) := dk_28 (dk_at dksX0_fits_0 4 rfl rfl)
theorem dX0_fits_5 : decode cX0_fits 5 = .ok (.invokevirtual 58, 3) := dk_182 0 58 (dk_at dksX0_fits_0 5 rfl rfl)
theorem dX0_fits_8 : decode cX0_fits 8 = .ok (.i2l, 1) := dk_133 (dk_at dksX0_fits_0 8 rfl rfl)
theorem dX0_fits_9 : decode cX0_fits 9 = .ok (.lastore, 1) := dk_80 (dk_at dksX0_fits_0 9 rfl rfl)
theorem dX0_fits_10 : decode cX0_fits 10 = .ok (.goto 11, 3) := dk_167 0 11 (dk_at dksX0_fits_0 10 rfl rfl)
theorem dX0_fits_13 : decode cX0_fits 13 = .ok (.astore 4, 2) := dk_58 4 (dk_at dksX0_fits_0 13 rfl rfl)
theorem dX0_fits_15 : decode cX0_fits 15 = .ok (.iconst 1, 1) := dk_4 (dk_at dksX0_fits_0 15 rfl rfl)
theorem dX0_fits_16 : decode cX0_fits 16 = .ok (.ireturn, 1) := dk_172 (dk_at dksX0_fits_0 16 rfl rfl)
theorem dX0_fits_17 : decode cX0_fits 17 = .ok (.astore 4, 2) := dk_58 4 (dk_at dksX0_fits_0 17 rfl rfl)
theorem dX0_fits_19 : decode cX0_fits 19 = .ok (.iconst 2, 1) := dk_5 (dk_at dksX0_fits_0 19 rfl rfl)
theorem dX0_fits_20 : decode cX0_fits 20 = .ok (.ireturn, 1) := dk_172 (dk_at dksX0_fits_0 20 rfl rfl)
theorem dX0_fits_21 : decode cX0_fits 21 = .ok (.iconst 0, 1) := dk_3 (dk_at dksX0_fits_0 21 rfl rfl)
theorem dX0_fits_22 : decode cX0_fits 22 = .ok (.ireturn, 1) := dk_172 (dk_at dksX0_fits_0 22 rfl rfl)
abbrev cX0_look : ByteArray := method_18_code
def yX0_look : MethodName := ⟨RX0, "look", "(LGrowingDoor;II[J)I"⟩
def dkwX0_look_0 : List UInt8 := [45, 3, 42, 27, 28, 182, 0, 61, 133, 80, 167, 0, 11, 58, 4, 4, 172, 58, 4, 5, 172, 3, 172]
abbrev dktX0_look_0 : List UInt8 := dkwX0_look_0 ++ []
theorem dksX0_look_0 : cX0_look.data.toList.drop 0 = dktX0_look_0 := by decide +kernel
theorem dX0_look_0 : decode cX0_look 0 = .ok (.aload_n 3, 1) := dk_45 (dk_at dksX0_look_0 0 rfl rfl)
theorem dX0_look_1 : decode cX0_look 1 = .ok (.iconst 0, 1) := dk_3 (dk_at dksX0_look_0 1 rfl rfl)
theorem dX0_look_2 : decode cX0_look 2 = .ok (.aload_n 0, 1) := dk_42 (dk_at dksX0_look_0 2 rfl rfl)
theorem dX0_look_3 : decode cX0_look 3 = .ok (.iload_n 1, 1) := dk_27 (dk_at dksX0_look_0 3 rfl rfl)
theorem dX0_look_4 : decode cX0_look 4 = .ok (.iload_n 2, 1) := dk_28 (dk_at dksX0_look_0 4 rfl rfl)
theorem dX0_look_5 : decode cX0_look 5 = .ok (.invokevirtual 61, 3) := dk_182 0 61 (dk_at dksX0_look_0 5 rfl rfl)
theorem dX0_look_8 : decode cX0_look 8 = .ok (.i2l, 1) := dk_133 (dk_at dksX0_look_0 8 rfl rfl)
theorem dX0_look_9 : decode cX0_look 9 = .ok (.lastore, 1) := dk_80 (dk_at dksX0_look_0 9 rfl rfl)
theorem dX0_look_10 : decode cX0_look 10 = .ok (.goto 11, 3) := dk_167 0 11 (dk_at dksX0_look_0 10 rfl rfl)
theorem dX0_look_13 : decode cX0_look 13 = .ok (.astore 4, 2) := dk_58 4 (dk_at dksX0_look_0 13 rfl rfl)
theorem dX0_look_15 : decode cX0_look 15 = .ok (.iconst 1, 1) := dk_4 (dk_at dksX0_look_0 15 rfl rfl)
theorem dX0_look_16 : decode cX0_look 16 = .ok (.ireturn, 1) := dk_172 (dk_at dksX0_look_0 16 rfl rfl)
theorem dX0_look_17 : decode cX0_look 17 = .ok (.astore 4, 2) := dk_58 4 (dk_at dksX0_look_0 17 rfl rfl)
theorem dX0_look_19 : decode cX0_look 19 = .ok (.iconst 2, 1) := dk_5 (dk_at dksX0_look_0 19 rfl rfl)
theorem dX0_look_20 : decode cX0_look 20 = .ok (.ireturn, 1) := dk_172 (dk_at dksX0_look_0 20 rfl rfl)
theorem dX0_look_21 : decode cX0_look 21 = .ok (.iconst 0, 1) := dk_3 (dk_at dksX0_look_0 21 rfl rfl)
theorem dX0_look_22 : decode cX0_look 22 = .ok (.ireturn, 1) := dk_172 (dk_at dksX0_look_0 22 rfl rfl)
abbrev cX0_run : ByteArray := method_19_code
def yX0_run : MethodName := ⟨RX0, "run", "(LGrowingDoor;IIII[J)I"⟩
def dkwX0_run_0 : List UInt8 := [25, 5, 3, 42, 27, 28, 29, 21, 4, 182, 0, 64, 80, 167, 0, 7, 58, 6, 4, 172, 3, 172]
abbrev dktX0_run_0 : List UInt8 := dkwX0_run_0 ++ []
theorem dksX0_run_0 : cX0_run.data.toList.drop 0 = dktX0_run_0 := by decide +kernel
theorem dX0_run_0 : decode cX0_run 0 = .ok (.aload 5, 2) := dk_25 5 (dk_at dksX0_run_0 0 rfl rfl)
theorem dX0_run_2 : decode cX0_run 2 = .ok (.iconst 0, 1) := dk_3 (dk_at dksX0_run_0 2 rfl rfl)
theorem dX0_run_3 : decode cX0_run 3 = .ok (.aload_n 0, 1) := dk_42 (dk_at dksX0_run_0 3 rfl rfl)
theorem dX0_run_4 : decode cX0_run 4 = .ok (.iload_n 1, 1) := dk_27 (dk_at dksX0_run_0 4 rfl rfl)
theorem dX0_run_5 : decode cX0_run 5 = .ok (.iload_n 2, 1) := dk_28 (dk_at dksX0_run_0 5 rfl rfl)
theorem dX0_run_6 : decode cX0_run 6 = .ok (.iload_n 3, 1) := dk_29 (dk_at dksX0_run_0 6 rfl rfl)
theorem dX0_run_7 : decode cX0_run 7 = .ok (.iload 4, 2) := dk_21 4 (dk_at dksX0_run_0 7 rfl rfl)
theorem dX0_run_9 : decode cX0_run 9 = .ok (.invokevirtual 64, 3) := dk_182 0 64 (dk_at dksX0_run_0 9 rfl rfl)
theorem dX0_run_12 : decode cX0_run 12 = .ok (.lastore, 1) := dk_80 (dk_at dksX0_run_0 12 rfl rfl)
theorem dX0_run_13 : decode cX0_run 13 = .ok (.goto 7, 3) := dk_167 0 7 (dk_at dksX0_run_0 13 rfl rfl)
theorem dX0_run_16 : decode cX0_run 16 = .ok (.astore 6, 2) := dk_58 6 (dk_at dksX0_run_0 16 rfl rfl)
theorem dX0_run_18 : decode cX0_run 18 = .ok (.iconst 1, 1) := dk_4 (dk_at dksX0_run_0 18 rfl rfl)
theorem dX0_run_19 : decode cX0_run 19 = .ok (.ireturn, 1) := dk_172 (dk_at dksX0_run_0 19 rfl rfl)
theorem dX0_run_20 : decode cX0_run 20 = .ok (.iconst 0, 1) := dk_3 (dk_at dksX0_run_0 20 rfl rfl)
theorem dX0_run_21 : decode cX0_run 21 = .ok (.ireturn, 1) := dk_172 (dk_at dksX0_run_0 21 rfl rfl)
abbrev cX0_planes : ByteArray := method_20_code
def yX0_planes : MethodName := ⟨RX0, "planes", "(LGrowingDoor;III[J)I"⟩
def dkwX0_planes_0 : List UInt8 := [25, 4, 3, 42, 27, 28, 29, 182, 0, 68, 133, 80, 167, 0, 7, 58, 5, 4, 172, 3, 172]
abbrev dktX0_planes_0 : List UInt8 := dkwX0_planes_0 ++ []
theorem dksX0_planes_0 : cX0_planes.data.toList.drop 0 = dktX0_planes_0 := by decide +kernel
theorem dX0_planes_0 : decode cX0_planes 0 = .ok (.aload 4, 2) := dk_25 4 (dk_at dksX0_planes_0 0 rfl rfl)
theorem dX0_planes_2 : decode cX0_planes 2 = .ok (.iconst 0, 1) := dk_3 (dk_at dksX0_planes_0 2 rfl rfl)
theorem dX0_planes_3 : decode cX0_planes 3 = .ok (.aload_n 0, 1) := dk_42 (dk_at dksX0_planes_0 3 rfl rfl)
theorem dX0_planes_4 : decode cX0_planes 4 = .ok (.iload_n 1, 1) := dk_27 (dk_at dksX0_planes_0 4 rfl rfl)
theorem dX0_planes_5 : decode cX0_planes 5 = .ok (.iload_n 2, 1) := dk_28 (dk_at dksX0_planes_0 5 rfl rfl)
theorem dX0_planes_6 : decode cX0_planes 6 = .ok (.iload_n 3, 1) := dk_29 (dk_at dksX0_planes_0 6 rfl rfl)
theorem dX0_planes_7 : decode cX0_planes 7 = .ok (.invokevirtual 68, 3) := dk_182 0 68 (dk_at dksX0_planes_0 7 rfl rfl)
theorem dX0_planes_10 : decode cX0_planes 10 = .ok (.i2l, 1) := dk_133 (dk_at dksX0_planes_0 10 rfl rfl)
theorem dX0_planes_11 : decode cX0_planes 11 = .ok (.lastore, 1) := dk_80 (dk_at dksX0_planes_0 11 rfl rfl)
theorem dX0_planes_12 : decode cX0_planes 12 = .ok (.goto 7, 3) := dk_167 0 7 (dk_at dksX0_planes_0 12 rfl rfl)
theorem dX0_planes_15 : decode cX0_planes 15 = .ok (.astore 5, 2) := dk_58 5 (dk_at dksX0_planes_0 15 rfl rfl)
theorem dX0_planes_17 : decode cX0_planes 17 = .ok (.iconst 1, 1) := dk_4 (dk_at dksX0_planes_0 17 rfl rfl)
theorem dX0_planes_18 : decode cX0_planes 18 = .ok (.ireturn, 1) := dk_172 (dk_at dksX0_planes_0 18 rfl rfl)
theorem dX0_planes_19 : decode cX0_planes 19 = .ok (.iconst 0, 1) := dk_3 (dk_at dksX0_planes_0 19 rfl rfl)
theorem dX0_planes_20 : decode cX0_planes 20 = .ok (.ireturn, 1) := dk_172 (dk_at dksX0_planes_0 20 rfl rfl)
abbrev cX0_chairs : ByteArray := method_21_code
def yX0_chairs : MethodName := ⟨RX0, "chairs", "(LGrowingDoor;III[J)I"⟩
def dkwX0_chairs_1 : List UInt8 := [172]
abbrev dktX0_chairs_1 : List UInt8 := dkwX0_chairs_1 ++ []
def dkwX0_chairs_0 : List UInt8 := [25, 4, 3, 42, 27, 28, 29, 182, 0, 72, 133, 80, 167, 0, 11, 58, 5, 4, 172, 58, 5, 5, 172, 3]
abbrev dktX0_chairs_0 : List UInt8 := dkwX0_chairs_0 ++ dktX0_chairs_1
theorem dksX0_chairs_0 : cX0_chairs.data.toList.drop 0 = dktX0_chairs_0 := by decide +kernel
theorem dksX0_chairs_1 : cX0_chairs.data.toList.drop 24 = dktX0_chairs_1 := dk_seg dksX0_chairs_0 24 rfl rfl
theorem dX0_chairs_0 : decode cX0_chairs 0 = .ok (.aload 4, 2) := dk_25 4 (dk_at dksX0_chairs_0 0 rfl rfl)
theorem dX0_chairs_2 : decode cX0_chairs 2 = .ok (.iconst 0, 1) := dk_3 (dk_at dksX0_chairs_0 2 rfl rfl)
theorem dX0_chairs_3 : decode cX0_chairs 3 = .ok (.aload_n 0, 1) := dk_42 (dk_at dksX0_chairs_0 3 rfl rfl)
theorem dX0_chairs_4 : decode cX0_chairs 4 = .ok (.iload_n 1, 1) := dk_27 (dk_at dksX0_chairs_0 4 rfl rfl)
theorem dX0_chairs_5 : decode cX0_chairs 5 = .ok (.iload_n 2, 1) := dk_28 (dk_at dksX0_chairs_0 5 rfl rfl)
theorem dX0_chairs_6 : decode cX0_chairs 6 = .ok (.iload_n 3, 1) := dk_29 (dk_at dksX0_chairs_0 6 rfl rfl)
theorem dX0_chairs_7 : decode cX0_chairs 7 = .ok (.invokevirtual 72, 3) := dk_182 0 72 (dk_at dksX0_chairs_0 7 rfl rfl)
theorem dX0_chairs_10 : decode cX0_chairs 10 = .ok (.i2l, 1) := dk_133 (dk_at dksX0_chairs_0 10 rfl rfl)
theorem dX0_chairs_11 : decode cX0_chairs 11 = .ok (.lastore, 1) := dk_80 (dk_at dksX0_chairs_0 11 rfl rfl)
theorem dX0_chairs_12 : decode cX0_chairs 12 = .ok (.goto 11, 3) := dk_167 0 11 (dk_at dksX0_chairs_0 12 rfl rfl)
theorem dX0_chairs_15 : decode cX0_chairs 15 = .ok (.astore 5, 2) := dk_58 5 (dk_at dksX0_chairs_0 15 rfl rfl)
theorem dX0_chairs_17 : decode cX0_chairs 17 = .ok (.iconst 1, 1) := dk_4 (dk_at dksX0_chairs_0 17 rfl rfl)
theorem dX0_chairs_18 : decode cX0_chairs 18 = .ok (.ireturn, 1) := dk_172 (dk_at dksX0_chairs_0 18 rfl rfl)
theorem dX0_chairs_19 : decode cX0_chairs 19 = .ok (.astore 5, 2) := dk_58 5 (dk_at dksX0_chairs_0 19 rfl rfl)
theorem dX0_chairs_21 : decode cX0_chairs 21 = .ok (.iconst 2, 1) := dk_5 (dk_at dksX0_chairs_0 21 rfl rfl)
theorem dX0_chairs_22 : decode cX0_chairs 22 = .ok (.ireturn, 1) := dk_172 (dk_at dksX0_chairs_0 22 rfl rfl)
theorem dX0_chairs_23 : decode cX0_chairs 23 = .ok (.iconst 0, 1) := dk_3 (dk_at dksX0_chairs_0 23 rfl rfl)
theorem dX0_chairs_24 : decode cX0_chairs 24 = .ok (.ireturn, 1) := dk_172 (dk_at dksX0_chairs_1 0 rfl rfl)
abbrev cX0_tallest : ByteArray := method_22_code
def yX0_tallest : MethodName := ⟨RX0, "tallest", "(LGrowingDoor;I[J)I"⟩
def dkwX0_tallest_0 : List UInt8 := [44, 3, 42, 27, 182, 0, 75, 133, 80, 167, 0, 6, 78, 4, 172, 3, 172]
abbrev dktX0_tallest_0 : List UInt8 := dkwX0_tallest_0 ++ []
theorem dksX0_tallest_0 : cX0_tallest.data.toList.drop 0 = dktX0_tallest_0 := by decide +kernel
theorem dX0_tallest_0 : decode cX0_tallest 0 = .ok (.aload_n 2, 1) := dk_44 (dk_at dksX0_tallest_0 0 rfl rfl)
theorem dX0_tallest_1 : decode cX0_tallest 1 = .ok (.iconst 0, 1) := dk_3 (dk_at dksX0_tallest_0 1 rfl rfl)
theorem dX0_tallest_2 : decode cX0_tallest 2 = .ok (.aload_n 0, 1) := dk_42 (dk_at dksX0_tallest_0 2 rfl rfl)
theorem dX0_tallest_3 : decode cX0_tallest 3 = .ok (.iload_n 1, 1) := dk_27 (dk_at dksX0_tallest_0 3 rfl rfl)
theorem dX0_tallest_4 : decode cX0_tallest 4 = .ok (.invokevirtual 75, 3) := dk_182 0 75 (dk_at dksX0_tallest_0 4 rfl rfl)
theorem dX0_tallest_7 : decode cX0_tallest 7 = .ok (.i2l, 1) := dk_133 (dk_at dksX0_tallest_0 7 rfl rfl)
theorem dX0_tallest_8 : decode cX0_tallest 8 = .ok (.lastore, 1) := dk_80 (dk_at dksX0_tallest_0 8 rfl rfl)
theorem dX0_tallest_9 : decode cX0_tallest 9 = .ok (.goto 6, 3) := dk_167 0 6 (dk_at dksX0_tallest_0 9 rfl rfl)
theorem dX0_tallest_12 : decode cX0_tallest 12 = .ok (.astore_n 3, 1) := dk_78 (dk_at dksX0_tallest_0 12 rfl rfl)
theorem dX0_tallest_13 : decode cX0_tallest 13 = .ok (.iconst 1, 1) := dk_4 (dk_at dksX0_tallest_0 13 rfl rfl)
theorem dX0_tallest_14 : decode cX0_tallest 14 = .ok (.ireturn, 1) := dk_172 (dk_at dksX0_tallest_0 14 rfl rfl)
theorem dX0_tallest_15 : decode cX0_tallest 15 = .ok (.iconst 0, 1) := dk_3 (dk_at dksX0_tallest_0 15 rfl rfl)
theorem dX0_tallest_16 : decode cX0_tallest 16 = .ok (.ireturn, 1) := dk_172 (dk_at dksX0_tallest_0 16 rfl rfl)
abbrev cX0_gained : ByteArray := method_23_code
def yX0_gained : MethodName := ⟨RX0, "gained", "(LGrowingDoor;I[J)I"⟩
def dkwX0_gained_0 : List UInt8 := [44, 3, 42, 27, 182, 0, 78, 133, 80, 167, 0, 6, 78, 4, 172, 3, 172]
abbrev dktX0_gained_0 : List UInt8 := dkwX0_gained_0 ++ []
theorem dksX0_gained_0 : cX0_gained.data.toList.drop 0 = dktX0_gained_0 := by decide +kernel
theorem dX0_gained_0 : decode cX0_gained 0 = .ok (.aload_n 2, 1) := dk_44 (dk_at dksX0_gained_0 0 rfl rfl)
theorem dX0_gained_1 : decode cX0_gained 1 = .ok (.iconst 0, 1) := dk_3 (dk_at dksX0_gained_0 1 rfl rfl)
theorem dX0_gained_2 : decode cX0_gained 2 = .ok (.aload_n 0, 1) := dk_42 (dk_at dksX0_gained_0 2 rfl rfl)
theorem dX0_gained_3 : decode cX0_gained 3 = .ok (.iload_n 1, 1) := dk_27 (dk_at dksX0_gained_0 3 rfl rfl)
theorem dX0_gained_4 : decode cX0_gained 4 = .ok (.invokevirtual 78, 3) := dk_182 0 78 (dk_at dksX0_gained_0 4 rfl rfl)
theorem dX0_gained_7 : decode cX0_gained 7 = .ok (.i2l, 1) := dk_133 (dk_at dksX0_gained_0 7 rfl rfl)
theorem dX0_gained_8 : decode cX0_gained 8 = .ok (.lastore, 1) := dk_80 (dk_at dksX0_gained_0 8 rfl rfl)
theorem dX0_gained_9 : decode cX0_gained 9 = .ok (.goto 6, 3) := dk_167 0 6 (dk_at dksX0_gained_0 9 rfl rfl)
theorem dX0_gained_12 : decode cX0_gained 12 = .ok (.astore_n 3, 1) := dk_78 (dk_at dksX0_gained_0 12 rfl rfl)
theorem dX0_gained_13 : decode cX0_gained 13 = .ok (.iconst 1, 1) := dk_4 (dk_at dksX0_gained_0 13 rfl rfl)
theorem dX0_gained_14 : decode cX0_gained 14 = .ok (.ireturn, 1) := dk_172 (dk_at dksX0_gained_0 14 rfl rfl)
theorem dX0_gained_15 : decode cX0_gained 15 = .ok (.iconst 0, 1) := dk_3 (dk_at dksX0_gained_0 15 rfl rfl)
theorem dX0_gained_16 : decode cX0_gained 16 = .ok (.ireturn, 1) := dk_172 (dk_at dksX0_gained_0 16 rfl rfl)
abbrev cX0_lies : ByteArray := method_24_code
def yX0_lies : MethodName := ⟨RX0, "lies", "(LGrowingDoor;I[J)I"⟩
def dkwX0_lies_0 : List UInt8 := [44, 3, 42, 27, 182, 0, 81, 133, 80, 167, 0, 6, 78, 4, 172, 3, 172]
abbrev dktX0_lies_0 : List UInt8 := dkwX0_lies_0 ++ []
theorem dksX0_lies_0 : cX0_lies.data.toList.drop 0 = dktX0_lies_0 := by decide +kernel
theorem dX0_lies_0 : decode cX0_lies 0 = .ok (.aload_n 2, 1) := dk_44 (dk_at dksX0_lies_0 0 rfl rfl)
theorem dX0_lies_1 : decode cX0_lies 1 = .ok (.iconst 0, 1) := dk_3 (dk_at dksX0_lies_0 1 rfl rfl)
theorem dX0_lies_2 : decode cX0_lies 2 = .ok (.aload_n 0, 1) := dk_42 (dk_at dksX0_lies_0 2 rfl rfl)
theorem dX0_lies_3 : decode cX0_lies 3 = .ok (.iload_n 1, 1) := dk_27 (dk_at dksX0_lies_0 3 rfl rfl)
theorem dX0_lies_4 : decode cX0_lies 4 = .ok (.invokevirtual 81, 3) := dk_182 0 81 (dk_at dksX0_lies_0 4 rfl rfl)
theorem dX0_lies_7 : decode cX0_lies 7 = .ok (.i2l, 1) := dk_133 (dk_at dksX0_lies_0 7 rfl rfl)
theorem dX0_lies_8 : decode cX0_lies 8 = .ok (.lastore, 1) := dk_80 (dk_at dksX0_lies_0 8 rfl rfl)
theorem dX0_lies_9 : decode cX0_lies 9 = .ok (.goto 6, 3) := dk_167 0 6 (dk_at dksX0_lies_0 9 rfl rfl)
theorem dX0_lies_12 : decode cX0_lies 12 = .ok (.astore_n 3, 1) := dk_78 (dk_at dksX0_lies_0 12 rfl rfl)
theorem dX0_lies_13 : decode cX0_lies 13 = .ok (.iconst 1, 1) := dk_4 (dk_at dksX0_lies_0 13 rfl rfl)
theorem dX0_lies_14 : decode cX0_lies 14 = .ok (.ireturn, 1) := dk_172 (dk_at dksX0_lies_0 14 rfl rfl)
theorem dX0_lies_15 : decode cX0_lies 15 = .ok (.iconst 0, 1) := dk_3 (dk_at dksX0_lies_0 15 rfl rfl)
theorem dX0_lies_16 : decode cX0_lies 16 = .ok (.ireturn, 1) := dk_172 (dk_at dksX0_lies_0 16 rfl rfl)
abbrev cX0_swells : ByteArray := method_25_code
def yX0_swells : MethodName := ⟨RX0, "swells", "(LGrowingDoor;I[J)I"⟩
def dkwX0_swells_0 : List UInt8 := [44, 3, 42, 27, 182, 0, 84, 133, 80, 167, 0, 6, 78, 4, 172, 3, 172]
abbrev dktX0_swells_0 : List UInt8 := dkwX0_swells_0 ++ []
theorem dksX0_swells_0 : cX0_swells.data.toList.drop 0 = dktX0_swells_0 := by decide +kernel
theorem dX0_swells_0 : decode cX0_swells 0 = .ok (.aload_n 2, 1) := dk_44 (dk_at dksX0_swells_0 0 rfl rfl)
theorem dX0_swells_1 : decode cX0_swells 1 = .ok (.iconst 0, 1) := dk_3 (dk_at dksX0_swells_0 1 rfl rfl)
theorem dX0_swells_2 : decode cX0_swells 2 = .ok (.aload_n 0, 1) := dk_42 (dk_at dksX0_swells_0 2 rfl rfl)
theorem dX0_swells_3 : decode cX0_swells 3 = .ok (.iload_n 1, 1) := dk_27 (dk_at dksX0_swells_0 3 rfl rfl)
theorem dX0_swells_4 : decode cX0_swells 4 = .ok (.invokevirtual 84, 3) := dk_182 0 84 (dk_at dksX0_swells_0 4 rfl rfl)
theorem dX0_swells_7 : decode cX0_swells 7 = .ok (.i2l, 1) := dk_133 (dk_at dksX0_swells_0 7 rfl rfl)
theorem dX0_swells_8 : decode cX0_swells 8 = .ok (.lastore, 1) := dk_80 (dk_at dksX0_swells_0 8 rfl rfl)
theorem dX0_swells_9 : decode cX0_swells 9 = .ok (.goto 6, 3) := dk_167 0 6 (dk_at dksX0_swells_0 9 rfl rfl)
theorem dX0_swells_12 : decode cX0_swells 12 = .ok (.astore_n 3, 1) := dk_78 (dk_at dksX0_swells_0 12 rfl rfl)
theorem dX0_swells_13 : decode cX0_swells 13 = .ok (.iconst 1, 1) := dk_4 (dk_at dksX0_swells_0 13 rfl rfl)
theorem dX0_swells_14 : decode cX0_swells 14 = .ok (.ireturn, 1) := dk_172 (dk_at dksX0_swells_0 14 rfl rfl)
theorem dX0_swells_15 : decode cX0_swells 15 = .ok (.iconst 0, 1) := dk_3 (dk_at dksX0_swells_0 15 rfl rfl)
theorem dX0_swells_16 : decode cX0_swells 16 = .ok (.ireturn, 1) := dk_172 (dk_at dksX0_swells_0 16 rfl rfl)
abbrev cX0_sinks : ByteArray := method_26_code
def yX0_sinks : MethodName := ⟨RX0, "sinks", "(LGrowingDoor;I[J)I"⟩
def dkwX0_sinks_0 : List UInt8 := [44, 3, 42, 27, 182, 0, 87, 133, 80, 167, 0, 6, 78, 4, 172, 3, 172]
abbrev dktX0_sinks_0 : List UInt8 := dkwX0_sinks_0 ++ []
theorem dksX0_sinks_0 : cX0_sinks.data.toList.drop 0 = dktX0_sinks_0 := by decide +kernel
theorem dX0_sinks_0 : decode cX0_sinks 0 = .ok (.aload_n 2, 1) := dk_44 (dk_at dksX0_sinks_0 0 rfl rfl)
theorem dX0_sinks_1 : decode cX0_sinks 1 = .ok (.iconst 0, 1) := dk_3 (dk_at dksX0_sinks_0 1 rfl rfl)
theorem dX0_sinks_2 : decode cX0_sinks 2 = .ok (.aload_n 0, 1) := dk_42 (dk_at dksX0_sinks_0 2 rfl rfl)
theorem dX0_sinks_3 : decode cX0_sinks 3 = .ok (.iload_n 1, 1) := dk_27 (dk_at dksX0_sinks_0 3 rfl rfl)
theorem dX0_sinks_4 : decode cX0_sinks 4 = .ok (.invokevirtual 87, 3) := dk_182 0 87 (dk_at dksX0_sinks_0 4 rfl rfl)
theorem dX0_sinks_7 : decode cX0_sinks 7 = .ok (.i2l, 1) := dk_133 (dk_at dksX0_sinks_0 7 rfl rfl)
theorem dX0_sinks_8 : decode cX0_sinks 8 = .ok (.lastore, 1) := dk_80 (dk_at dksX0_sinks_0 8 rfl rfl)
theorem dX0_sinks_9 : decode cX0_sinks 9 = .ok (.goto 6, 3) := dk_167 0 6 (dk_at dksX0_sinks_0 9 rfl rfl)
theorem dX0_sinks_12 : decode cX0_sinks 12 = .ok (.astore_n 3, 1) := dk_78 (dk_at dksX0_sinks_0 12 rfl rfl)
theorem dX0_sinks_13 : decode cX0_sinks 13 = .ok (.iconst 1, 1) := dk_4 (dk_at dksX0_sinks_0 13 rfl rfl)
theorem dX0_sinks_14 : decode cX0_sinks 14 = .ok (.ireturn, 1) := dk_172 (dk_at dksX0_sinks_0 14 rfl rfl)
theorem dX0_sinks_15 : decode cX0_sinks 15 = .ok (.iconst 0, 1) := dk_3 (dk_at dksX0_sinks_0 15 rfl rfl)
theorem dX0_sinks_16 : decode cX0_sinks 16 = .ok (.ireturn, 1) := dk_172 (dk_at dksX0_sinks_0 16 rfl rfl)
abbrev cX0_heads : ByteArray := method_27_code
def yX0_heads : MethodName := ⟨RX0, "heads", "(LGrowingDoor;I[J)I"⟩
def dkwX0_heads_0 : List UInt8 := [44, 3, 42, 27, 182, 0, 90, 133, 80, 167, 0, 6, 78, 4, 172, 3, 172]
abbrev dktX0_heads_0 : List UInt8 := dkwX0_heads_0 ++ []
theorem dksX0_heads_0 : cX0_heads.data.toList.drop 0 = dktX0_heads_0 := by decide +kernel
theorem dX0_heads_0 : decode cX0_heads 0 = .ok (.aload_n 2, 1) := dk_44 (dk_at dksX0_heads_0 0 rfl rfl)
theorem dX0_heads_1 : decode cX0_heads 1 = .ok (.iconst 0, 1) := dk_3 (dk_at dksX0_heads_0 1 rfl rfl)
theorem dX0_heads_2 : decode cX0_heads 2 = .ok (.aload_n 0, 1) := dk_42 (dk_at dksX0_heads_0 2 rfl rfl)
theorem dX0_heads_3 : decode cX0_heads 3 = .ok (.iload_n 1, 1) := dk_27 (dk_at dksX0_heads_0 3 rfl rfl)
theorem dX0_heads_4 : decode cX0_heads 4 = .ok (.invokevirtual 90, 3) := dk_182 0 90 (dk_at dksX0_heads_0 4 rfl rfl)
theorem dX0_heads_7 : decode cX0_heads 7 = .ok (.i2l, 1) := dk_133 (dk_at dksX0_heads_0 7 rfl rfl)
theorem dX0_heads_8 : decode cX0_heads 8 = .ok (.lastore, 1) := dk_80 (dk_at dksX0_heads_0 8 rfl rfl)
theorem dX0_heads_9 : decode cX0_heads 9 = .ok (.goto 6, 3) := dk_167 0 6 (dk_at dksX0_heads_0 9 rfl rfl)
theorem dX0_heads_12 : decode cX0_heads 12 = .ok (.astore_n 3, 1) := dk_78 (dk_at dksX0_heads_0 12 rfl rfl)
theorem dX0_heads_13 : decode cX0_heads 13 = .ok (.iconst 1, 1) := dk_4 (dk_at dksX0_heads_0 13 rfl rfl)
theorem dX0_heads_14 : decode cX0_heads 14 = .ok (.ireturn, 1) := dk_172 (dk_at dksX0_heads_0 14 rfl rfl)
theorem dX0_heads_15 : decode cX0_heads 15 = .ok (.iconst 0, 1) := dk_3 (dk_at dksX0_heads_0 15 rfl rfl)
theorem dX0_heads_16 : decode cX0_heads 16 = .ok (.ireturn, 1) := dk_172 (dk_at dksX0_heads_0 16 rfl rfl)
abbrev cX0_driest : ByteArray := method_28_code
def yX0_driest : MethodName := ⟨RX0, "driest", "(LGrowingDoor;I[J)I"⟩
def dkwX0_driest_0 : List UInt8 := [44, 3, 42, 27, 182, 0, 93, 133, 80, 167, 0, 6, 78, 4, 172, 3, 172]
abbrev dktX0_driest_0 : List UInt8 := dkwX0_driest_0 ++ []
theorem dksX0_driest_0 : cX0_driest.data.toList.drop 0 = dktX0_driest_0 := by decide +kernel
theorem dX0_driest_0 : decode cX0_driest 0 = .ok (.aload_n 2, 1) := dk_44 (dk_at dksX0_driest_0 0 rfl rfl)
theorem dX0_driest_1 : decode cX0_driest 1 = .ok (.iconst 0, 1) := dk_3 (dk_at dksX0_driest_0 1 rfl rfl)
theorem dX0_driest_2 : decode cX0_driest 2 = .ok (.aload_n 0, 1) := dk_42 (dk_at dksX0_driest_0 2 rfl rfl)
theorem dX0_driest_3 : decode cX0_driest 3 = .ok (.iload_n 1, 1) := dk_27 (dk_at dksX0_driest_0 3 rfl rfl)
theorem dX0_driest_4 : decode cX0_driest 4 = .ok (.invokevirtual 93, 3) := dk_182 0 93 (dk_at dksX0_driest_0 4 rfl rfl)
theorem dX0_driest_7 : decode cX0_driest 7 = .ok (.i2l, 1) := dk_133 (dk_at dksX0_driest_0 7 rfl rfl)
theorem dX0_driest_8 : decode cX0_driest 8 = .ok (.lastore, 1) := dk_80 (dk_at dksX0_driest_0 8 rfl rfl)
theorem dX0_driest_9 : decode cX0_driest 9 = .ok (.goto 6, 3) := dk_167 0 6 (dk_at dksX0_driest_0 9 rfl rfl)
theorem dX0_driest_12 : decode cX0_driest 12 = .ok (.astore_n 3, 1) := dk_78 (dk_at dksX0_driest_0 12 rfl rfl)
theorem dX0_driest_13 : decode cX0_driest 13 = .ok (.iconst 1, 1) := dk_4 (dk_at dksX0_driest_0 13 rfl rfl)
theorem dX0_driest_14 : decode cX0_driest 14 = .ok (.ireturn, 1) := dk_172 (dk_at dksX0_driest_0 14 rfl rfl)
theorem dX0_driest_15 : decode cX0_driest 15 = .ok (.iconst 0, 1) := dk_3 (dk_at dksX0_driest_0 15 rfl rfl)
theorem dX0_driest_16 : decode cX0_driest 16 = .ok (.ireturn, 1) := dk_172 (dk_at dksX0_driest_0 16 rfl rfl)
abbrev cX0_decade : ByteArray := method_29_code
def yX0_decade : MethodName := ⟨RX0, "decade", "(LGrowingDoor;IIII[J)I"⟩
def dkwX0_decade_0 : List UInt8 := [25, 5, 3, 42, 27, 28, 29, 21, 4, 182, 0, 96, 133, 80, 167, 0, 7, 58, 6, 4, 172, 3, 172]
abbrev dktX0_decade_0 : List UInt8 := dkwX0_decade_0 ++ []
theorem dksX0_decade_0 : cX0_decade.data.toList.drop 0 = dktX0_decade_0 := by decide +kernel
theorem dX0_decade_0 : decode cX0_decade 0 = .ok (.aload 5, 2) := dk_25 5 (dk_at dksX0_decade_0 0 rfl rfl)
theorem dX0_decade_2 : decode cX0_decade 2 = .ok (.iconst 0, 1) := dk_3 (dk_at dksX0_decade_0 2 rfl rfl)
theorem dX0_decade_3 : decode cX0_decade 3 = .ok (.aload_n 0, 1) := dk_42 (dk_at dksX0_decade_0 3 rfl rfl)
theorem dX0_decade_4 : decode cX0_decade 4 = .ok (.iload_n 1, 1) := dk_27 (dk_at dksX0_decade_0 4 rfl rfl)
theorem dX0_decade_5 : decode cX0_decade 5 = .ok (.iload_n 2, 1) := dk_28 (dk_at dksX0_decade_0 5 rfl rfl)
theorem dX0_decade_6 : decode cX0_decade 6 = .ok (.iload_n 3, 1) := dk_29 (dk_at dksX0_decade_0 6 rfl rfl)
theorem dX0_decade_7 : decode cX0_decade 7 = .ok (.iload 4, 2) := dk_21 4 (dk_at dksX0_decade_0 7 rfl rfl)
theorem dX0_decade_9 : decode cX0_decade 9 = .ok (.invokevirtual 96, 3) := dk_182 0 96 (dk_at dksX0_decade_0 9 rfl rfl)
theorem dX0_decade_12 : decode cX0_decade 12 = .ok (.i2l, 1) := dk_133 (dk_at dksX0_decade_0 12 rfl rfl)
theorem dX0_decade_13 : decode cX0_decade 13 = .ok (.lastore, 1) := dk_80 (dk_at dksX0_decade_0 13 rfl rfl)
theorem dX0_decade_14 : decode cX0_decade 14 = .ok (.goto 7, 3) := dk_167 0 7 (dk_at dksX0_decade_0 14 rfl rfl)
theorem dX0_decade_17 : decode cX0_decade 17 = .ok (.astore 6, 2) := dk_58 6 (dk_at dksX0_decade_0 17 rfl rfl)
theorem dX0_decade_19 : decode cX0_decade 19 = .ok (.iconst 1, 1) := dk_4 (dk_at dksX0_decade_0 19 rfl rfl)
theorem dX0_decade_20 : decode cX0_decade 20 = .ok (.ireturn, 1) := dk_172 (dk_at dksX0_decade_0 20 rfl rfl)
theorem dX0_decade_21 : decode cX0_decade 21 = .ok (.iconst 0, 1) := dk_3 (dk_at dksX0_decade_0 21 rfl rfl)
theorem dX0_decade_22 : decode cX0_decade 22 = .ok (.ireturn, 1) := dk_172 (dk_at dksX0_decade_0 22 rfl rfl)
abbrev cX0_span : ByteArray := method_30_code
def yX0_span : MethodName := ⟨RX0, "span", "(LGrowingDoor;IIIIII[J)I"⟩
def dkwX0_span_1 : List UInt8 := [172, 3, 172]
abbrev dktX0_span_1 : List UInt8 := dkwX0_span_1 ++ []
def dkwX0_span_0 : List UInt8 := [25, 7, 3, 42, 27, 28, 29, 21, 4, 21, 5, 21, 6, 182, 0, 100, 133, 80, 167, 0, 7, 58, 8, 4]
abbrev dktX0_span_0 : List UInt8 := dkwX0_span_0 ++ dktX0_span_1
theorem dksX0_span_0 : cX0_span.data.toList.drop 0 = dktX0_span_0 := by decide +kernel
theorem dksX0_span_1 : cX0_span.data.toList.drop 24 = dktX0_span_1 := dk_seg dksX0_span_0 24 rfl rfl
theorem dX0_span_0 : decode cX0_span 0 = .ok (.aload 7, 2) := dk_25 7 (dk_at dksX0_span_0 0 rfl rfl)
theorem dX0_span_2 : decode cX0_span 2 = .ok (.iconst 0, 1) := dk_3 (dk_at dksX0_span_0 2 rfl rfl)
theorem dX0_span_3 : decode cX0_span 3 = .ok (.aload_n 0, 1) := dk_42 (dk_at dksX0_span_0 3 rfl rfl)
theorem dX0_span_4 : decode cX0_span 4 = .ok (.iload_n 1, 1) := dk_27 (dk_at dksX0_span_0 4 rfl rfl)
theorem dX0_span_5 : decode cX0_span 5 = .ok (.iload_n 2, 1) := dk_28 (dk_at dksX0_span_0 5 rfl rfl)
theorem dX0_span_6 : decode cX0_span 6 = .ok (.iload_n 3, 1) := dk_29 (dk_at dksX0_span_0 6 rfl rfl)
theorem dX0_span_7 : decode cX0_span 7 = .ok (.iload 4, 2) := dk_21 4 (dk_at dksX0_span_0 7 rfl rfl)
theorem dX0_span_9 : decode cX0_span 9 = .ok (.iload 5, 2) := dk_21 5 (dk_at dksX0_span_0 9 rfl rfl)
theorem dX0_span_11 : decode cX0_span 11 = .ok (.iload 6, 2) := dk_21 6 (dk_at dksX0_span_0 11 rfl rfl)
theorem dX0_span_13 : decode cX0_span 13 = .ok (.invokevirtual 100, 3) := dk_182 0 100 (dk_at dksX0_span_0 13 rfl rfl)
theorem dX0_span_16 : decode cX0_span 16 = .ok (.i2l, 1) := dk_133 (dk_at dksX0_span_0 16 rfl rfl)
theorem dX0_span_17 : decode cX0_span 17 = .ok (.lastore, 1) := dk_80 (dk_at dksX0_span_0 17 rfl rfl)
theorem dX0_span_18 : decode cX0_span 18 = .ok (.goto 7, 3) := dk_167 0 7 (dk_at dksX0_span_0 18 rfl rfl)
theorem dX0_span_21 : decode cX0_span 21 = .ok (.astore 8, 2) := dk_58 8 (dk_at dksX0_span_0 21 rfl rfl)
theorem dX0_span_23 : decode cX0_span 23 = .ok (.iconst 1, 1) := dk_4 (dk_at dksX0_span_0 23 rfl rfl)
theorem dX0_span_24 : decode cX0_span 24 = .ok (.ireturn, 1) := dk_172 (dk_at dksX0_span_1 0 rfl rfl)
theorem dX0_span_25 : decode cX0_span 25 = .ok (.iconst 0, 1) := dk_3 (dk_at dksX0_span_1 1 rfl rfl)
theorem dX0_span_26 : decode cX0_span 26 = .ok (.ireturn, 1) := dk_172 (dk_at dksX0_span_1 2 rfl rfl)
theorem q85 : (Jvm.Cond.initialized "GrowingDoorLaw") ∈ lw_all := lw_g (lw_at lw_m1 0 rfl) rfl
theorem q120 : (Jvm.Cond.classLink "GrowingDoorLaw" (8 : Nat) "GrowingDoor") ∈ lw_all := lw_g (lw_at lw_m1 35 rfl) rfl
theorem q122 : (Jvm.Cond.methodLink "GrowingDoorLaw" (104 : Nat) ({ cls := "GrowingDoor", name := "<init>", desc := "()V" } : Jvm.MethodName)) ∈ lw_all := lw_g (lw_at lw_m1 37 rfl) rfl
theorem q427 : (Jvm.Cond.methodLink "GrowingDoorLaw" (108 : Nat) ({ cls := "GrowingDoor", name := "feed", desc := "(IIIII)I" } : Jvm.MethodName)) ∈ lw_all := lw_g (lw_at lw_m2 102 rfl) rfl
theorem q431 : (Jvm.Cond.methodLink "GrowingDoorLaw" (132 : Nat) ({ cls := "GrowingDoor", name := "fault", desc := "()I" } : Jvm.MethodName)) ∈ lw_all := lw_g (lw_at lw_m2 106 rfl) rfl
theorem q435 : (Jvm.Cond.methodLink "GrowingDoorLaw" (136 : Nat) ({ cls := "GrowingDoor", name := "undo", desc := "()I" } : Jvm.MethodName)) ∈ lw_all := lw_g (lw_at lw_m2 110 rfl) rfl
theorem q439 : (Jvm.Cond.methodLink "GrowingDoorLaw" (166 : Nat) ({ cls := "GrowingDoor", name := "mates", desc := "()I" } : Jvm.MethodName)) ∈ lw_all := lw_g (lw_at lw_m2 114 rfl) rfl
theorem q469 : (Jvm.Cond.methodLink "GrowingDoorLaw" (173 : Nat) ({ cls := "GrowingDoor", name := "ladder", desc := "()I" } : Jvm.MethodName)) ∈ lw_all := lw_g (lw_at lw_m2 144 rfl) rfl
theorem q480 : (Jvm.Cond.methodLink "GrowingDoorLaw" (225 : Nat) ({ cls := "GrowingDoor", name := "image", desc := "()I" } : Jvm.MethodName)) ∈ lw_all := lw_g (lw_at lw_m2 155 rfl) rfl
theorem q492 : (Jvm.Cond.methodLink "GrowingDoorLaw" (229 : Nat) ({ cls := "GrowingDoor", name := "restore", desc := "()I" } : Jvm.MethodName)) ∈ lw_all := lw_g (lw_at lw_m2 167 rfl) rfl
theorem q496 : (Jvm.Cond.methodLink "GrowingDoorLaw" (233 : Nat) ({ cls := "GrowingDoor", name := "status", desc := "(I)I" } : Jvm.MethodName)) ∈ lw_all := lw_g (lw_at lw_m2 171 rfl) rfl
theorem q500 : (Jvm.Cond.methodLink "GrowingDoorLaw" (237 : Nat) ({ cls := "GrowingDoor", name := "count", desc := "(I)I" } : Jvm.MethodName)) ∈ lw_all := lw_g (lw_at lw_m2 175 rfl) rfl
theorem q504 : (Jvm.Cond.methodLink "GrowingDoorLaw" (113 : Nat) ({ cls := "GrowingDoorLaw", name := "school", desc := "(LGrowingDoor;I[J)I" } : Jvm.MethodName)) ∈ lw_all := lw_g (lw_at lw_m2 179 rfl) rfl
theorem q505 : (Jvm.Cond.static ({ cls := "GrowingDoorLaw", name := "school", desc := "(LGrowingDoor;I[J)I" } : Jvm.MethodName)) ∈ lw_all := lw_g (lw_at lw_m2 180 rfl) rfl
theorem q506 : (Jvm.Cond.codeWith ({ cls := "GrowingDoorLaw", name := "school", desc := "(LGrowingDoor;I[J)I" } : Jvm.MethodName) method_3_code (4 : Nat) (Option.some Jvm.ClassFile.FieldType.int) [((0 : Nat), (9 : Nat), (12 : Nat), (13 : Nat))]) ∈ lw_all := lw_g (lw_at lw_m2 181 rfl) rfl
theorem q507 : (Jvm.Cond.classLink "GrowingDoorLaw" (13 : Nat) "java/lang/IllegalArgumentException") ∈ lw_all := lw_g (lw_at lw_m2 182 rfl) rfl
theorem q508 : (Jvm.Cond.methodLink "GrowingDoorLaw" (7 : Nat) ({ cls := "GrowingDoor", name := "school", desc := "(I)I" } : Jvm.MethodName)) ∈ lw_all := lw_g (lw_at lw_m2 183 rfl) rfl
theorem q773 : (Jvm.Cond.methodLink "GrowingDoorLaw" (123 : Nat) ({ cls := "GrowingDoorLaw", name := "law", desc := "(LGrowingDoor;I[J)I" } : Jvm.MethodName)) ∈ lw_all := lw_g (lw_at lw_m3 208 rfl) rfl
theorem q774 : (Jvm.Cond.static ({ cls := "GrowingDoorLaw", name := "law", desc := "(LGrowingDoor;I[J)I" } : Jvm.MethodName)) ∈ lw_all := lw_g (lw_at lw_m3 209 rfl) rfl
theorem q775 : (Jvm.Cond.codeWith ({ cls := "GrowingDoorLaw", name := "law", desc := "(LGrowingDoor;I[J)I" } : Jvm.MethodName) method_4_code (4 : Nat) (Option.some Jvm.ClassFile.FieldType.int) [((0 : Nat), (9 : Nat), (12 : Nat), (13 : Nat))]) ∈ lw_all := lw_g (lw_at lw_m3 210 rfl) rfl
theorem q776 : (Jvm.Cond.methodLink "GrowingDoorLaw" (15 : Nat) ({ cls := "GrowingDoor", name := "law", desc := "(I)I" } : Jvm.MethodName)) ∈ lw_all := lw_g (lw_at lw_m3 211 rfl) rfl
theorem q879 : (Jvm.Cond.methodLink "GrowingDoorLaw" (126 : Nat) ({ cls := "GrowingDoorLaw", name := "work", desc := "(LGrowingDoor;I[J)I" } : Jvm.MethodName)) ∈ lw_all := lw_g (lw_at lw_m4 74 rfl) rfl
theorem q880 : (Jvm.Cond.static ({ cls := "GrowingDoorLaw", name := "work", desc := "(LGrowingDoor;I[J)I" } : Jvm.MethodName)) ∈ lw_all := lw_g (lw_at lw_m4 75 rfl) rfl
theorem q881 : (Jvm.Cond.codeWith ({ cls := "GrowingDoorLaw", name := "work", desc := "(LGrowingDoor;I[J)I" } : Jvm.MethodName) method_5_code (4 : Nat) (Option.some Jvm.ClassFile.FieldType.int) [((0 : Nat), (9 : Nat), (12 : Nat), (13 : Nat))]) ∈ lw_all := lw_g (lw_at lw_m4 76 rfl) rfl
theorem q882 : (Jvm.Cond.methodLink "GrowingDoorLaw" (18 : Nat) ({ cls := "GrowingDoor", name := "work", desc := "(I)I" } : Jvm.MethodName)) ∈ lw_all := lw_g (lw_at lw_m4 77 rfl) rfl
theorem q1157 : (Jvm.Cond.methodLink "GrowingDoorLaw" (129 : Nat) ({ cls := "GrowingDoorLaw", name := "book", desc := "(LGrowingDoor;I[J)I" } : Jvm.MethodName)) ∈ lw_all := lw_g (lw_at lw_m5 112 rfl) rfl
theorem q1158 : (Jvm.Cond.static ({ cls := "GrowingDoorLaw", name := "book", desc := "(LGrowingDoor;I[J)I" } : Jvm.MethodName)) ∈ lw_all := lw_g (lw_at lw_m5 113 rfl) rfl
theorem q1159 : (Jvm.Cond.codeWith ({ cls := "GrowingDoorLaw", name := "book", desc := "(LGrowingDoor;I[J)I" } : Jvm.MethodName) method_6_code (4 : Nat) (Option.some Jvm.ClassFile.FieldType.int) [((0 : Nat), (9 : Nat), (12 : Nat), (13 : Nat))]) ∈ lw_all := lw_g (lw_at lw_m5 114 rfl) rfl
theorem q1160 : (Jvm.Cond.methodLink "GrowingDoorLaw" (21 : Nat) ({ cls := "GrowingDoor", name := "book", desc := "(I)I" } : Jvm.MethodName)) ∈ lw_all := lw_g (lw_at lw_m5 115 rfl) rfl
theorem q1170 : (Jvm.Cond.methodLink "GrowingDoorLaw" (140 : Nat) ({ cls := "GrowingDoorLaw", name := "told", desc := "(LGrowingDoor;I[J)I" } : Jvm.MethodName)) ∈ lw_all := lw_g (lw_at lw_m5 125 rfl) rfl
theorem q1171 : (Jvm.Cond.static ({ cls := "GrowingDoorLaw", name := "told", desc := "(LGrowingDoor;I[J)I" } : Jvm.MethodName)) ∈ lw_all := lw_g (lw_at lw_m5 126 rfl) rfl
theorem q1172 : (Jvm.Cond.codeWith ({ cls := "GrowingDoorLaw", name := "told", desc := "(LGrowingDoor;I[J)I" } : Jvm.MethodName) method_7_code (4 : Nat) (Option.some Jvm.ClassFile.FieldType.int) [((0 : Nat), (9 : Nat), (12 : Nat), (13 : Nat))]) ∈ lw_all := lw_g (lw_at lw_m5 127 rfl) rfl
theorem q1173 : (Jvm.Cond.methodLink "GrowingDoorLaw" (24 : Nat) ({ cls := "GrowingDoor", name := "told", desc := "(I)I" } : Jvm.MethodName)) ∈ lw_all := lw_g (lw_at lw_m5 128 rfl) rfl
theorem q1184 : (Jvm.Cond.methodLink "GrowingDoorLaw" (143 : Nat) ({ cls := "GrowingDoorLaw", name := "board", desc := "(LGrowingDoor;II[J)I" } : Jvm.MethodName)) ∈ lw_all := lw_g (lw_at lw_m5 139 rfl) rfl
theorem q1185 : (Jvm.Cond.static ({ cls := "GrowingDoorLaw", name := "board", desc := "(LGrowingDoor;II[J)I" } : Jvm.MethodName)) ∈ lw_all := lw_g (lw_at lw_m5 140 rfl) rfl
theorem q1186 : (Jvm.Cond.codeWith ({ cls := "GrowingDoorLaw", name := "board", desc := "(LGrowingDoor;II[J)I" } : Jvm.MethodName) method_8_code (5 : Nat) (Option.some Jvm.ClassFile.FieldType.int) [((0 : Nat), (10 : Nat), (13 : Nat), (31 : Nat)), ((0 : Nat), (10 : Nat), (17 : Nat), (13 : Nat))]) ∈ lw_all := lw_g (lw_at lw_m5 141 rfl) rfl
theorem q1187 : (Jvm.Cond.classLink "GrowingDoorLaw" (31 : Nat) "java/util/NoSuchElementException") ∈ lw_all := lw_g (lw_at lw_m5 142 rfl) rfl
theorem q1188 : (Jvm.Cond.methodLink "GrowingDoorLaw" (27 : Nat) ({ cls := "GrowingDoor", name := "board", desc := "(II)I" } : Jvm.MethodName)) ∈ lw_all := lw_g (lw_at lw_m5 143 rfl) rfl
theorem q1216 : (Jvm.Cond.methodLink "GrowingDoorLaw" (147 : Nat) ({ cls := "GrowingDoorLaw", name := "boy", desc := "(LGrowingDoor;II[J)I" } : Jvm.MethodName)) ∈ lw_all := lw_g (lw_at lw_m5 171 rfl) rfl
theorem q1217 : (Jvm.Cond.static ({ cls := "GrowingDoorLaw", name := "boy", desc := "(LGrowingDoor;II[J)I" } : Jvm.MethodName)) ∈ lw_all := lw_g (lw_at lw_m5 172 rfl) rfl
theorem q1218 : (Jvm.Cond.codeWith ({ cls := "GrowingDoorLaw", name := "boy", desc := "(LGrowingDoor;II[J)I" } : Jvm.MethodName) method_9_code (5 : Nat) (Option.some Jvm.ClassFile.FieldType.int) [((0 : Nat), (10 : Nat), (13 : Nat), (31 : Nat)), ((0 : Nat), (10 : Nat), (17 : Nat), (13 : Nat))]) ∈ lw_all := lw_g (lw_at lw_m5 173 rfl) rfl
theorem q1219 : (Jvm.Cond.methodLink "GrowingDoorLaw" (33 : Nat) ({ cls := "GrowingDoor", name := "boy", desc := "(II)I" } : Jvm.MethodName)) ∈ lw_all := lw_g (lw_at lw_m5 174 rfl) rfl
theorem q1230 : (Jvm.Cond.methodLink "GrowingDoorLaw" (150 : Nat) ({ cls := "GrowingDoorLaw", name := "grows", desc := "(LGrowingDoor;I[J)I" } : Jvm.MethodName)) ∈ lw_all := lw_g (lw_at lw_m5 185 rfl) rfl
theorem q1231 : (Jvm.Cond.static ({ cls := "GrowingDoorLaw", name := "grows", desc := "(LGrowingDoor;I[J)I" } : Jvm.MethodName)) ∈ lw_all := lw_g (lw_at lw_m5 186 rfl) rfl
theorem q1232 : (Jvm.Cond.codeWith ({ cls := "GrowingDoorLaw", name := "grows", desc := "(LGrowingDoor;I[J)I" } : Jvm.MethodName) method_10_code (4 : Nat) (Option.some Jvm.ClassFile.FieldType.int) [((0 : Nat), (9 : Nat), (12 : Nat), (31 : Nat))]) ∈ lw_all := lw_g (lw_at lw_m5 187 rfl) rfl
theorem q1233 : (Jvm.Cond.methodLink "GrowingDoorLaw" (36 : Nat) ({ cls := "GrowingDoor", name := "grows", desc := "(I)I" } : Jvm.MethodName)) ∈ lw_all := lw_g (lw_at lw_m5 188 rfl) rfl
theorem q1238 : (Jvm.Cond.methodLink "GrowingDoorLaw" (153 : Nat) ({ cls := "GrowingDoorLaw", name := "would", desc := "(LGrowingDoor;IIIIIIII[J)I" } : Jvm.MethodName)) ∈ lw_all := lw_g (lw_at lw_m5 193 rfl) rfl
theorem q1239 : (Jvm.Cond.static ({ cls := "GrowingDoorLaw", name := "would", desc := "(LGrowingDoor;IIIIIIII[J)I" } : Jvm.MethodName)) ∈ lw_all := lw_g (lw_at lw_m5 194 rfl) rfl
theorem q1240 : (Jvm.Cond.codeWith ({ cls := "GrowingDoorLaw", name := "would", desc := "(LGrowingDoor;IIIIIIII[J)I" } : Jvm.MethodName) method_11_code (11 : Nat) (Option.some Jvm.ClassFile.FieldType.int) [((0 : Nat), (22 : Nat), (25 : Nat), (13 : Nat))]) ∈ lw_all := lw_g (lw_at lw_m5 195 rfl) rfl
theorem q1241 : (Jvm.Cond.methodLink "GrowingDoorLaw" (39 : Nat) ({ cls := "GrowingDoor", name := "would", desc := "(IIIIIIII)I" } : Jvm.MethodName)) ∈ lw_all := lw_g (lw_at lw_m5 196 rfl) rfl
theorem q1246 : (Jvm.Cond.methodLink "GrowingDoorLaw" (157 : Nat) ({ cls := "GrowingDoorLaw", name := "ahead", desc := "(LGrowingDoor;II[J)I" } : Jvm.MethodName)) ∈ lw_all := lw_g (lw_at lw_m5 201 rfl) rfl
theorem q1247 : (Jvm.Cond.static ({ cls := "GrowingDoorLaw", name := "ahead", desc := "(LGrowingDoor;II[J)I" } : Jvm.MethodName)) ∈ lw_all := lw_g (lw_at lw_m5 202 rfl) rfl
theorem q1248 : (Jvm.Cond.codeWith ({ cls := "GrowingDoorLaw", name := "ahead", desc := "(LGrowingDoor;II[J)I" } : Jvm.MethodName) method_12_code (5 : Nat) (Option.some Jvm.ClassFile.FieldType.int) [((0 : Nat), (10 : Nat), (13 : Nat), (13 : Nat))]) ∈ lw_all := lw_g (lw_at lw_m5 203 rfl) rfl
theorem q1249 : (Jvm.Cond.methodLink "GrowingDoorLaw" (43 : Nat) ({ cls := "GrowingDoor", name := "ahead", desc := "(II)I" } : Jvm.MethodName)) ∈ lw_all := lw_g (lw_at lw_m5 204 rfl) rfl
theorem q1262 : (Jvm.Cond.methodLink "GrowingDoorLaw" (160 : Nat) ({ cls := "GrowingDoorLaw", name := "passes", desc := "(LGrowingDoor;II[J)I" } : Jvm.MethodName)) ∈ lw_all := lw_g (lw_at lw_m5 217 rfl) rfl
theorem q1263 : (Jvm.Cond.static ({ cls := "GrowingDoorLaw", name := "passes", desc := "(LGrowingDoor;II[J)I" } : Jvm.MethodName)) ∈ lw_all := lw_g (lw_at lw_m5 218 rfl) rfl
theorem q1264 : (Jvm.Cond.codeWith ({ cls := "GrowingDoorLaw", name := "passes", desc := "(LGrowingDoor;II[J)I" } : Jvm.MethodName) method_13_code (5 : Nat) (Option.some Jvm.ClassFile.FieldType.int) [((0 : Nat), (10 : Nat), (13 : Nat), (31 : Nat)), ((0 : Nat), (10 : Nat), (17 : Nat), (13 : Nat))]) ∈ lw_all := lw_g (lw_at lw_m5 219 rfl) rfl
theorem q1265 : (Jvm.Cond.methodLink "GrowingDoorLaw" (46 : Nat) ({ cls := "GrowingDoor", name := "passes", desc := "(II)I" } : Jvm.MethodName)) ∈ lw_all := lw_g (lw_at lw_m5 220 rfl) rfl
theorem q1269 : (Jvm.Cond.methodLink "GrowingDoorLaw" (163 : Nat) ({ cls := "GrowingDoorLaw", name := "feeds", desc := "(LGrowingDoor;II[J)I" } : Jvm.MethodName)) ∈ lw_all := lw_g (lw_at lw_m5 224 rfl) rfl
theorem q1270 : (Jvm.Cond.static ({ cls := "GrowingDoorLaw", name := "feeds", desc := "(LGrowingDoor;II[J)I" } : Jvm.MethodName)) ∈ lw_all := lw_g (lw_at lw_m5 225 rfl) rfl
theorem q1271 : (Jvm.Cond.codeWith ({ cls := "GrowingDoorLaw", name := "feeds", desc := "(LGrowingDoor;II[J)I" } : Jvm.MethodName) method_14_code (5 : Nat) (Option.some Jvm.ClassFile.FieldType.int) [((0 : Nat), (10 : Nat), (13 : Nat), (31 : Nat)), ((0 : Nat), (10 : Nat), (17 : Nat), (13 : Nat))]) ∈ lw_all := lw_g (lw_at lw_m5 226 rfl) rfl
theorem q1272 : (Jvm.Cond.methodLink "GrowingDoorLaw" (49 : Nat) ({ cls := "GrowingDoor", name := "feeds", desc := "(II)I" } : Jvm.MethodName)) ∈ lw_all := lw_g (lw_at lw_m5 227 rfl) rfl
theorem q1276 : (Jvm.Cond.methodLink "GrowingDoorLaw" (170 : Nat) ({ cls := "GrowingDoorLaw", name := "mate", desc := "(LGrowingDoor;I[J)I" } : Jvm.MethodName)) ∈ lw_all := lw_g (lw_at lw_m5 231 rfl) rfl
theorem q1277 : (Jvm.Cond.static ({ cls := "GrowingDoorLaw", name := "mate", desc := "(LGrowingDoor;I[J)I" } : Jvm.MethodName)) ∈ lw_all := lw_g (lw_at lw_m5 232 rfl) rfl
theorem q1278 : (Jvm.Cond.codeWith ({ cls := "GrowingDoorLaw", name := "mate", desc := "(LGrowingDoor;I[J)I" } : Jvm.MethodName) method_15_code (4 : Nat) (Option.some Jvm.ClassFile.FieldType.int) [((0 : Nat), (9 : Nat), (12 : Nat), (31 : Nat))]) ∈ lw_all := lw_g (lw_at lw_m5 233 rfl) rfl
theorem q1279 : (Jvm.Cond.methodLink "GrowingDoorLaw" (52 : Nat) ({ cls := "GrowingDoor", name := "mate", desc := "(I)I" } : Jvm.MethodName)) ∈ lw_all := lw_g (lw_at lw_m5 234 rfl) rfl
theorem q1283 : (Jvm.Cond.methodLink "GrowingDoorLaw" (177 : Nat) ({ cls := "GrowingDoorLaw", name := "rung", desc := "(LGrowingDoor;I[J)I" } : Jvm.MethodName)) ∈ lw_all := lw_g (lw_at lw_m5 238 rfl) rfl
theorem q1284 : (Jvm.Cond.static ({ cls := "GrowingDoorLaw", name := "rung", desc := "(LGrowingDoor;I[J)I" } : Jvm.MethodName)) ∈ lw_all := lw_g (lw_at lw_m5 239 rfl) rfl
theorem q1285 : (Jvm.Cond.codeWith ({ cls := "GrowingDoorLaw", name := "rung", desc := "(LGrowingDoor;I[J)I" } : Jvm.MethodName) method_16_code (4 : Nat) (Option.some Jvm.ClassFile.FieldType.int) [((0 : Nat), (9 : Nat), (12 : Nat), (13 : Nat))]) ∈ lw_all := lw_g (lw_at lw_m6 0 rfl) rfl
theorem q1286 : (Jvm.Cond.methodLink "GrowingDoorLaw" (55 : Nat) ({ cls := "GrowingDoor", name := "rung", desc := "(I)I" } : Jvm.MethodName)) ∈ lw_all := lw_g (lw_at lw_m6 1 rfl) rfl
theorem q1291 : (Jvm.Cond.methodLink "GrowingDoorLaw" (180 : Nat) ({ cls := "GrowingDoorLaw", name := "fits", desc := "(LGrowingDoor;II[J)I" } : Jvm.MethodName)) ∈ lw_all := lw_g (lw_at lw_m6 6 rfl) rfl
theorem q1292 : (Jvm.Cond.static ({ cls := "GrowingDoorLaw", name := "fits", desc := "(LGrowingDoor;II[J)I" } : Jvm.MethodName)) ∈ lw_all := lw_g (lw_at lw_m6 7 rfl) rfl
theorem q1293 : (Jvm.Cond.codeWith ({ cls := "GrowingDoorLaw", name := "fits", desc := "(LGrowingDoor;II[J)I" } : Jvm.MethodName) method_17_code (5 : Nat) (Option.some Jvm.ClassFile.FieldType.int) [((0 : Nat), (10 : Nat), (13 : Nat), (31 : Nat)), ((0 : Nat), (10 : Nat), (17 : Nat), (13 : Nat))]) ∈ lw_all := lw_g (lw_at lw_m6 8 rfl) rfl
theorem q1294 : (Jvm.Cond.methodLink "GrowingDoorLaw" (58 : Nat) ({ cls := "GrowingDoor", name := "fits", desc := "(II)I" } : Jvm.MethodName)) ∈ lw_all := lw_g (lw_at lw_m6 9 rfl) rfl
theorem q1302 : (Jvm.Cond.methodLink "GrowingDoorLaw" (183 : Nat) ({ cls := "GrowingDoorLaw", name := "look", desc := "(LGrowingDoor;II[J)I" } : Jvm.MethodName)) ∈ lw_all := lw_g (lw_at lw_m6 17 rfl) rfl
theorem q1303 : (Jvm.Cond.static ({ cls := "GrowingDoorLaw", name := "look", desc := "(LGrowingDoor;II[J)I" } : Jvm.MethodName)) ∈ lw_all := lw_g (lw_at lw_m6 18 rfl) rfl
theorem q1304 : (Jvm.Cond.codeWith ({ cls := "GrowingDoorLaw", name := "look", desc := "(LGrowingDoor;II[J)I" } : Jvm.MethodName) method_18_code (5 : Nat) (Option.some Jvm.ClassFile.FieldType.int) [((0 : Nat), (10 : Nat), (13 : Nat), (31 : Nat)), ((0 : Nat), (10 : Nat), (17 : Nat), (13 : Nat))]) ∈ lw_all := lw_g (lw_at lw_m6 19 rfl) rfl
theorem q1305 : (Jvm.Cond.methodLink "GrowingDoorLaw" (61 : Nat) ({ cls := "GrowingDoor", name := "look", desc := "(II)I" } : Jvm.MethodName)) ∈ lw_all := lw_g (lw_at lw_m6 20 rfl) rfl
theorem q1317 : (Jvm.Cond.methodLink "GrowingDoorLaw" (186 : Nat) ({ cls := "GrowingDoorLaw", name := "run", desc := "(LGrowingDoor;IIII[J)I" } : Jvm.MethodName)) ∈ lw_all := lw_g (lw_at lw_m6 32 rfl) rfl
theorem q1318 : (Jvm.Cond.static ({ cls := "GrowingDoorLaw", name := "run", desc := "(LGrowingDoor;IIII[J)I" } : Jvm.MethodName)) ∈ lw_all := lw_g (lw_at lw_m6 33 rfl) rfl
theorem q1319 : (Jvm.Cond.codeWith ({ cls := "GrowingDoorLaw", name := "run", desc := "(LGrowingDoor;IIII[J)I" } : Jvm.MethodName) method_19_code (7 : Nat) (Option.some Jvm.ClassFile.FieldType.int) [((0 : Nat), (13 : Nat), (16 : Nat), (13 : Nat))]) ∈ lw_all := lw_g (lw_at lw_m6 34 rfl) rfl
theorem q1320 : (Jvm.Cond.methodLink "GrowingDoorLaw" (64 : Nat) ({ cls := "GrowingDoor", name := "run", desc := "(IIII)J" } : Jvm.MethodName)) ∈ lw_all := lw_g (lw_at lw_m6 35 rfl) rfl
theorem q1327 : (Jvm.Cond.methodLink "GrowingDoorLaw" (190 : Nat) ({ cls := "GrowingDoorLaw", name := "planes", desc := "(LGrowingDoor;III[J)I" } : Jvm.MethodName)) ∈ lw_all := lw_g (lw_at lw_m6 42 rfl) rfl
theorem q1328 : (Jvm.Cond.static ({ cls := "GrowingDoorLaw", name := "planes", desc := "(LGrowingDoor;III[J)I" } : Jvm.MethodName)) ∈ lw_all := lw_g (lw_at lw_m6 43 rfl) rfl
theorem q1329 : (Jvm.Cond.codeWith ({ cls := "GrowingDoorLaw", name := "planes", desc := "(LGrowingDoor;III[J)I" } : Jvm.MethodName) method_20_code (6 : Nat) (Option.some Jvm.ClassFile.FieldType.int) [((0 : Nat), (12 : Nat), (15 : Nat), (13 : Nat))]) ∈ lw_all := lw_g (lw_at lw_m6 44 rfl) rfl
theorem q1330 : (Jvm.Cond.methodLink "GrowingDoorLaw" (68 : Nat) ({ cls := "GrowingDoor", name := "planes", desc := "(III)I" } : Jvm.MethodName)) ∈ lw_all := lw_g (lw_at lw_m6 45 rfl) rfl
theorem q1337 : (Jvm.Cond.methodLink "GrowingDoorLaw" (194 : Nat) ({ cls := "GrowingDoorLaw", name := "chairs", desc := "(LGrowingDoor;III[J)I" } : Jvm.MethodName)) ∈ lw_all := lw_g (lw_at lw_m6 52 rfl) rfl
theorem q1338 : (Jvm.Cond.static ({ cls := "GrowingDoorLaw", name := "chairs", desc := "(LGrowingDoor;III[J)I" } : Jvm.MethodName)) ∈ lw_all := lw_g (lw_at lw_m6 53 rfl) rfl
theorem q1339 : (Jvm.Cond.codeWith ({ cls := "GrowingDoorLaw", name := "chairs", desc := "(LGrowingDoor;III[J)I" } : Jvm.MethodName) method_21_code (6 : Nat) (Option.some Jvm.ClassFile.FieldType.int) [((0 : Nat), (12 : Nat), (15 : Nat), (31 : Nat)), ((0 : Nat), (12 : Nat), (19 : Nat), (13 : Nat))]) ∈ lw_all := lw_g (lw_at lw_m6 54 rfl) rfl
theorem q1340 : (Jvm.Cond.methodLink "GrowingDoorLaw" (72 : Nat) ({ cls := "GrowingDoor", name := "chairs", desc := "(III)I" } : Jvm.MethodName)) ∈ lw_all := lw_g (lw_at lw_m6 55 rfl) rfl
theorem q1348 : (Jvm.Cond.methodLink "GrowingDoorLaw" (197 : Nat) ({ cls := "GrowingDoorLaw", name := "tallest", desc := "(LGrowingDoor;I[J)I" } : Jvm.MethodName)) ∈ lw_all := lw_g (lw_at lw_m6 63 rfl) rfl
theorem q1349 : (Jvm.Cond.static ({ cls := "GrowingDoorLaw", name := "tallest", desc := "(LGrowingDoor;I[J)I" } : Jvm.MethodName)) ∈ lw_all := lw_g (lw_at lw_m6 64 rfl) rfl
theorem q1350 : (Jvm.Cond.codeWith ({ cls := "GrowingDoorLaw", name := "tallest", desc := "(LGrowingDoor;I[J)I" } : Jvm.MethodName) method_22_code (4 : Nat) (Option.some Jvm.ClassFile.FieldType.int) [((0 : Nat), (9 : Nat), (12 : Nat), (13 : Nat))]) ∈ lw_all := lw_g (lw_at lw_m6 65 rfl) rfl
theorem q1351 : (Jvm.Cond.methodLink "GrowingDoorLaw" (75 : Nat) ({ cls := "GrowingDoor", name := "tallest", desc := "(I)I" } : Jvm.MethodName)) ∈ lw_all := lw_g (lw_at lw_m6 66 rfl) rfl
theorem q1355 : (Jvm.Cond.methodLink "GrowingDoorLaw" (200 : Nat) ({ cls := "GrowingDoorLaw", name := "gained", desc := "(LGrowingDoor;I[J)I" } : Jvm.MethodName)) ∈ lw_all := lw_g (lw_at lw_m6 70 rfl) rfl
theorem q1356 : (Jvm.Cond.static ({ cls := "GrowingDoorLaw", name := "gained", desc := "(LGrowingDoor;I[J)I" } : Jvm.MethodName)) ∈ lw_all := lw_g (lw_at lw_m6 71 rfl) rfl
theorem q1357 : (Jvm.Cond.codeWith ({ cls := "GrowingDoorLaw", name := "gained", desc := "(LGrowingDoor;I[J)I" } : Jvm.MethodName) method_23_code (4 : Nat) (Option.some Jvm.ClassFile.FieldType.int) [((0 : Nat), (9 : Nat), (12 : Nat), (13 : Nat))]) ∈ lw_all := lw_g (lw_at lw_m6 72 rfl) rfl
theorem q1358 : (Jvm.Cond.methodLink "GrowingDoorLaw" (78 : Nat) ({ cls := "GrowingDoor", name := "gained", desc := "(I)I" } : Jvm.MethodName)) ∈ lw_all := lw_g (lw_at lw_m6 73 rfl) rfl
theorem q1365 : (Jvm.Cond.methodLink "GrowingDoorLaw" (203 : Nat) ({ cls := "GrowingDoorLaw", name := "lies", desc := "(LGrowingDoor;I[J)I" } : Jvm.MethodName)) ∈ lw_all := lw_g (lw_at lw_m6 80 rfl) rfl
theorem q1366 : (Jvm.Cond.static ({ cls := "GrowingDoorLaw", name := "lies", desc := "(LGrowingDoor;I[J)I" } : Jvm.MethodName)) ∈ lw_all := lw_g (lw_at lw_m6 81 rfl) rfl
theorem q1367 : (Jvm.Cond.codeWith ({ cls := "GrowingDoorLaw", name := "lies", desc := "(LGrowingDoor;I[J)I" } : Jvm.MethodName) method_24_code (4 : Nat) (Option.some Jvm.ClassFile.FieldType.int) [((0 : Nat), (9 : Nat), (12 : Nat), (13 : Nat))]) ∈ lw_all := lw_g (lw_at lw_m6 82 rfl) rfl
theorem q1368 : (Jvm.Cond.methodLink "GrowingDoorLaw" (81 : Nat) ({ cls := "GrowingDoor", name := "lies", desc := "(I)I" } : Jvm.MethodName)) ∈ lw_all := lw_g (lw_at lw_m6 83 rfl) rfl
theorem q1373 : (Jvm.Cond.methodLink "GrowingDoorLaw" (206 : Nat) ({ cls := "GrowingDoorLaw", name := "swells", desc := "(LGrowingDoor;I[J)I" } : Jvm.MethodName)) ∈ lw_all := lw_g (lw_at lw_m6 88 rfl) rfl
theorem q1374 : (Jvm.Cond.static ({ cls := "GrowingDoorLaw", name := "swells", desc := "(LGrowingDoor;I[J)I" } : Jvm.MethodName)) ∈ lw_all := lw_g (lw_at lw_m6 89 rfl) rfl
theorem q1375 : (Jvm.Cond.codeWith ({ cls := "GrowingDoorLaw", name := "swells", desc := "(LGrowingDoor;I[J)I" } : Jvm.MethodName) method_25_code (4 : Nat) (Option.some Jvm.ClassFile.FieldType.int) [((0 : Nat), (9 : Nat), (12 : Nat), (31 : Nat))]) ∈ lw_all := lw_g (lw_at lw_m6 90 rfl) rfl
theorem q1376 : (Jvm.Cond.methodLink "GrowingDoorLaw" (84 : Nat) ({ cls := "GrowingDoor", name := "swells", desc := "(I)I" } : Jvm.MethodName)) ∈ lw_all := lw_g (lw_at lw_m6 91 rfl) rfl
theorem q1381 : (Jvm.Cond.methodLink "GrowingDoorLaw" (209 : Nat) ({ cls := "GrowingDoorLaw", name := "sinks", desc := "(LGrowingDoor;I[J)I" } : Jvm.MethodName)) ∈ lw_all := lw_g (lw_at lw_m6 96 rfl) rfl
theorem q1382 : (Jvm.Cond.static ({ cls := "GrowingDoorLaw", name := "sinks", desc := "(LGrowingDoor;I[J)I" } : Jvm.MethodName)) ∈ lw_all := lw_g (lw_at lw_m6 97 rfl) rfl
theorem q1383 : (Jvm.Cond.codeWith ({ cls := "GrowingDoorLaw", name := "sinks", desc := "(LGrowingDoor;I[J)I" } : Jvm.MethodName) method_26_code (4 : Nat) (Option.some Jvm.ClassFile.FieldType.int) [((0 : Nat), (9 : Nat), (12 : Nat), (31 : Nat))]) ∈ lw_all := lw_g (lw_at lw_m6 98 rfl) rfl
theorem q1384 : (Jvm.Cond.methodLink "GrowingDoorLaw" (87 : Nat) ({ cls := "GrowingDoor", name := "sinks", desc := "(I)I" } : Jvm.MethodName)) ∈ lw_all := lw_g (lw_at lw_m6 99 rfl) rfl
theorem q1388 : (Jvm.Cond.methodLink "GrowingDoorLaw" (212 : Nat) ({ cls := "GrowingDoorLaw", name := "heads", desc := "(LGrowingDoor;I[J)I" } : Jvm.MethodName)) ∈ lw_all := lw_g (lw_at lw_m6 103 rfl) rfl
theorem q1389 : (Jvm.Cond.static ({ cls := "GrowingDoorLaw", name := "heads", desc := "(LGrowingDoor;I[J)I" } : Jvm.MethodName)) ∈ lw_all := lw_g (lw_at lw_m6 104 rfl) rfl
theorem q1390 : (Jvm.Cond.codeWith ({ cls := "GrowingDoorLaw", name := "heads", desc := "(LGrowingDoor;I[J)I" } : Jvm.MethodName) method_27_code (4 : Nat) (Option.some Jvm.ClassFile.FieldType.int) [((0 : Nat), (9 : Nat), (12 : Nat), (13 : Nat))]) ∈ lw_all := lw_g (lw_at lw_m6 105 rfl) rfl
theorem q1391 : (Jvm.Cond.methodLink "GrowingDoorLaw" (90 : Nat) ({ cls := "GrowingDoor", name := "heads", desc := "(I)I" } : Jvm.MethodName)) ∈ lw_all := lw_g (lw_at lw_m6 106 rfl) rfl
theorem q1395 : (Jvm.Cond.methodLink "GrowingDoorLaw" (215 : Nat) ({ cls := "GrowingDoorLaw", name := "driest", desc := "(LGrowingDoor;I[J)I" } : Jvm.MethodName)) ∈ lw_all := lw_g (lw_at lw_m6 110 rfl) rfl
theorem q1396 : (Jvm.Cond.static ({ cls := "GrowingDoorLaw", name := "driest", desc := "(LGrowingDoor;I[J)I" } : Jvm.MethodName)) ∈ lw_all := lw_g (lw_at lw_m6 111 rfl) rfl
theorem q1397 : (Jvm.Cond.codeWith ({ cls := "GrowingDoorLaw", name := "driest", desc := "(LGrowingDoor;I[J)I" } : Jvm.MethodName) method_28_code (4 : Nat) (Option.some Jvm.ClassFile.FieldType.int) [((0 : Nat), (9 : Nat), (12 : Nat), (13 : Nat))]) ∈ lw_all := lw_g (lw_at lw_m6 112 rfl) rfl
theorem q1398 : (Jvm.Cond.methodLink "GrowingDoorLaw" (93 : Nat) ({ cls := "GrowingDoor", name := "driest", desc := "(I)I" } : Jvm.MethodName)) ∈ lw_all := lw_g (lw_at lw_m6 113 rfl) rfl
theorem q1402 : (Jvm.Cond.methodLink "GrowingDoorLaw" (218 : Nat) ({ cls := "GrowingDoorLaw", name := "decade", desc := "(LGrowingDoor;IIII[J)I" } : Jvm.MethodName)) ∈ lw_all := lw_g (lw_at lw_m6 117 rfl) rfl
theorem q1403 : (Jvm.Cond.static ({ cls := "GrowingDoorLaw", name := "decade", desc := "(LGrowingDoor;IIII[J)I" } : Jvm.MethodName)) ∈ lw_all := lw_g (lw_at lw_m6 118 rfl) rfl
theorem q1404 : (Jvm.Cond.codeWith ({ cls := "GrowingDoorLaw", name := "decade", desc := "(LGrowingDoor;IIII[J)I" } : Jvm.MethodName) method_29_code (7 : Nat) (Option.some Jvm.ClassFile.FieldType.int) [((0 : Nat), (14 : Nat), (17 : Nat), (13 : Nat))]) ∈ lw_all := lw_g (lw_at lw_m6 119 rfl) rfl
theorem q1405 : (Jvm.Cond.methodLink "GrowingDoorLaw" (96 : Nat) ({ cls := "GrowingDoor", name := "decade", desc := "(IIII)I" } : Jvm.MethodName)) ∈ lw_all := lw_g (lw_at lw_m6 120 rfl) rfl
theorem q1425 : (Jvm.Cond.methodLink "GrowingDoorLaw" (221 : Nat) ({ cls := "GrowingDoorLaw", name := "span", desc := "(LGrowingDoor;IIIIII[J)I" } : Jvm.MethodName)) ∈ lw_all := lw_g (lw_at lw_m6 140 rfl) rfl
theorem q1426 : (Jvm.Cond.static ({ cls := "GrowingDoorLaw", name := "span", desc := "(LGrowingDoor;IIIIII[J)I" } : Jvm.MethodName)) ∈ lw_all := lw_g (lw_at lw_m6 141 rfl) rfl
theorem q1427 : (Jvm.Cond.codeWith ({ cls := "GrowingDoorLaw", name := "span", desc := "(LGrowingDoor;IIIIII[J)I" } : Jvm.MethodName) method_30_code (9 : Nat) (Option.some Jvm.ClassFile.FieldType.int) [((0 : Nat), (18 : Nat), (21 : Nat), (13 : Nat))]) ∈ lw_all := lw_g (lw_at lw_m6 142 rfl) rfl
theorem q1428 : (Jvm.Cond.methodLink "GrowingDoorLaw" (100 : Nat) ({ cls := "GrowingDoor", name := "span", desc := "(IIIIII)I" } : Jvm.MethodName)) ∈ lw_all := lw_g (lw_at lw_m6 143 rfl) rfl
theorem q1432 : (Jvm.Cond.methodLink "GrowingDoorLaw" (119 : Nat) ({ cls := "GrowingDoorModel", name := "thrown", desc := "()I" } : Jvm.MethodName)) ∈ lw_all := lw_g (lw_at lw_m6 147 rfl) rfl
theorem q1436 : (Jvm.Cond.classLink "GrowingDoorLaw" (105 : Nat) "GrowingDoorModel") ∈ lw_all := lw_g (lw_at lw_m6 151 rfl) rfl
theorem q1438 : (Jvm.Cond.methodLink "GrowingDoorLaw" (107 : Nat) ({ cls := "GrowingDoorModel", name := "<init>", desc := "()V" } : Jvm.MethodName)) ∈ lw_all := lw_g (lw_at lw_m6 153 rfl) rfl
theorem q1627 : (Jvm.Cond.methodLink "GrowingDoorLaw" (112 : Nat) ({ cls := "GrowingDoorModel", name := "feed", desc := "(IIIII)I" } : Jvm.MethodName)) ∈ lw_all := lw_g (lw_at lw_m7 102 rfl) rfl
theorem q1631 : (Jvm.Cond.methodLink "GrowingDoorLaw" (135 : Nat) ({ cls := "GrowingDoorModel", name := "fault", desc := "()I" } : Jvm.MethodName)) ∈ lw_all := lw_g (lw_at lw_m7 106 rfl) rfl
theorem q1635 : (Jvm.Cond.methodLink "GrowingDoorLaw" (118 : Nat) ({ cls := "GrowingDoorModel", name := "school", desc := "(I)I" } : Jvm.MethodName)) ∈ lw_all := lw_g (lw_at lw_m7 110 rfl) rfl
theorem q1709 : (Jvm.Cond.methodLink "GrowingDoorLaw" (125 : Nat) ({ cls := "GrowingDoorModel", name := "law", desc := "(I)I" } : Jvm.MethodName)) ∈ lw_all := lw_g (lw_at lw_m7 184 rfl) rfl
theorem q1748 : (Jvm.Cond.methodLink "GrowingDoorLaw" (128 : Nat) ({ cls := "GrowingDoorModel", name := "work", desc := "(I)I" } : Jvm.MethodName)) ∈ lw_all := lw_g (lw_at lw_m7 223 rfl) rfl
theorem q1841 : (Jvm.Cond.methodLink "GrowingDoorLaw" (131 : Nat) ({ cls := "GrowingDoorModel", name := "book", desc := "(I)I" } : Jvm.MethodName)) ∈ lw_all := lw_g (lw_at lw_m8 76 rfl) rfl
theorem q1845 : (Jvm.Cond.methodLink "GrowingDoorLaw" (139 : Nat) ({ cls := "GrowingDoorModel", name := "undo", desc := "()I" } : Jvm.MethodName)) ∈ lw_all := lw_g (lw_at lw_m8 80 rfl) rfl
theorem q1849 : (Jvm.Cond.methodLink "GrowingDoorLaw" (142 : Nat) ({ cls := "GrowingDoorModel", name := "told", desc := "(I)I" } : Jvm.MethodName)) ∈ lw_all := lw_g (lw_at lw_m8 84 rfl) rfl
theorem q1864 : (Jvm.Cond.methodLink "GrowingDoorLaw" (146 : Nat) ({ cls := "GrowingDoorModel", name := "board", desc := "(II)I" } : Jvm.MethodName)) ∈ lw_all := lw_g (lw_at lw_m8 99 rfl) rfl
theorem q1872 : (Jvm.Cond.methodLink "GrowingDoorLaw" (149 : Nat) ({ cls := "GrowingDoorModel", name := "boy", desc := "(II)I" } : Jvm.MethodName)) ∈ lw_all := lw_g (lw_at lw_m8 107 rfl) rfl
theorem q1880 : (Jvm.Cond.methodLink "GrowingDoorLaw" (152 : Nat) ({ cls := "GrowingDoorModel", name := "grows", desc := "(I)I" } : Jvm.MethodName)) ∈ lw_all := lw_g (lw_at lw_m8 115 rfl) rfl
theorem q1884 : (Jvm.Cond.methodLink "GrowingDoorLaw" (156 : Nat) ({ cls := "GrowingDoorModel", name := "would", desc := "(IIIIIIII)I" } : Jvm.MethodName)) ∈ lw_all := lw_g (lw_at lw_m8 119 rfl) rfl
theorem q1888 : (Jvm.Cond.methodLink "GrowingDoorLaw" (159 : Nat) ({ cls := "GrowingDoorModel", name := "ahead", desc := "(II)I" } : Jvm.MethodName)) ∈ lw_all := lw_g (lw_at lw_m8 123 rfl) rfl
theorem q1896 : (Jvm.Cond.methodLink "GrowingDoorLaw" (162 : Nat) ({ cls := "GrowingDoorModel", name := "passes", desc := "(II)I" } : Jvm.MethodName)) ∈ lw_all := lw_g (lw_at lw_m8 131 rfl) rfl
theorem q1900 : (Jvm.Cond.methodLink "GrowingDoorLaw" (211 : Nat) ({ cls := "GrowingDoorModel", name := "sinks", desc := "(I)I" } : Jvm.MethodName)) ∈ lw_all := lw_g (lw_at lw_m8 135 rfl) rfl
theorem q1904 : (Jvm.Cond.methodLink "GrowingDoorLaw" (165 : Nat) ({ cls := "GrowingDoorModel", name := "feeds", desc := "(II)I" } : Jvm.MethodName)) ∈ lw_all := lw_g (lw_at lw_m8 139 rfl) rfl
theorem q1908 : (Jvm.Cond.methodLink "GrowingDoorLaw" (169 : Nat) ({ cls := "GrowingDoorModel", name := "mates", desc := "()I" } : Jvm.MethodName)) ∈ lw_all := lw_g (lw_at lw_m8 143 rfl) rfl
theorem q1934 : (Jvm.Cond.methodLink "GrowingDoorLaw" (172 : Nat) ({ cls := "GrowingDoorModel", name := "mate", desc := "(I)I" } : Jvm.MethodName)) ∈ lw_all := lw_g (lw_at lw_m8 169 rfl) rfl
theorem q1938 : (Jvm.Cond.methodLink "GrowingDoorLaw" (176 : Nat) ({ cls := "GrowingDoorModel", name := "ladder", desc := "()I" } : Jvm.MethodName)) ∈ lw_all := lw_g (lw_at lw_m8 173 rfl) rfl
theorem q1946 : (Jvm.Cond.methodLink "GrowingDoorLaw" (179 : Nat) ({ cls := "GrowingDoorModel", name := "rung", desc := "(I)I" } : Jvm.MethodName)) ∈ lw_all := lw_g (lw_at lw_m8 181 rfl) rfl
theorem q1950 : (Jvm.Cond.methodLink "GrowingDoorLaw" (182 : Nat) ({ cls := "GrowingDoorModel", name := "fits", desc := "(II)I" } : Jvm.MethodName)) ∈ lw_all := lw_g (lw_at lw_m8 185 rfl) rfl
theorem q1958 : (Jvm.Cond.methodLink "GrowingDoorLaw" (185 : Nat) ({ cls := "GrowingDoorModel", name := "look", desc := "(II)I" } : Jvm.MethodName)) ∈ lw_all := lw_g (lw_at lw_m8 193 rfl) rfl
theorem q1962 : (Jvm.Cond.methodLink "GrowingDoorLaw" (189 : Nat) ({ cls := "GrowingDoorModel", name := "run", desc := "(IIII)J" } : Jvm.MethodName)) ∈ lw_all := lw_g (lw_at lw_m8 197 rfl) rfl
theorem q1970 : (Jvm.Cond.methodLink "GrowingDoorLaw" (193 : Nat) ({ cls := "GrowingDoorModel", name := "planes", desc := "(III)I" } : Jvm.MethodName)) ∈ lw_all := lw_g (lw_at lw_m8 205 rfl) rfl
theorem q1977 : (Jvm.Cond.methodLink "GrowingDoorLaw" (196 : Nat) ({ cls := "GrowingDoorModel", name := "chairs", desc := "(III)I" } : Jvm.MethodName)) ∈ lw_all := lw_g (lw_at lw_m8 212 rfl) rfl
theorem q1985 : (Jvm.Cond.methodLink "GrowingDoorLaw" (199 : Nat) ({ cls := "GrowingDoorModel", name := "tallest", desc := "(I)I" } : Jvm.MethodName)) ∈ lw_all := lw_g (lw_at lw_m8 220 rfl) rfl
theorem q1989 : (Jvm.Cond.methodLink "GrowingDoorLaw" (202 : Nat) ({ cls := "GrowingDoorModel", name := "gained", desc := "(I)I" } : Jvm.MethodName)) ∈ lw_all := lw_g (lw_at lw_m8 224 rfl) rfl
theorem q1993 : (Jvm.Cond.methodLink "GrowingDoorLaw" (205 : Nat) ({ cls := "GrowingDoorModel", name := "lies", desc := "(I)I" } : Jvm.MethodName)) ∈ lw_all := lw_g (lw_at lw_m8 228 rfl) rfl
theorem q1997 : (Jvm.Cond.methodLink "GrowingDoorLaw" (208 : Nat) ({ cls := "GrowingDoorModel", name := "swells", desc := "(I)I" } : Jvm.MethodName)) ∈ lw_all := lw_g (lw_at lw_m8 232 rfl) rfl
theorem q2001 : (Jvm.Cond.methodLink "GrowingDoorLaw" (214 : Nat) ({ cls := "GrowingDoorModel", name := "heads", desc := "(I)I" } : Jvm.MethodName)) ∈ lw_all := lw_g (lw_at lw_m8 236 rfl) rfl
theorem q2005 : (Jvm.Cond.methodLink "GrowingDoorLaw" (217 : Nat) ({ cls := "GrowingDoorModel", name := "driest", desc := "(I)I" } : Jvm.MethodName)) ∈ lw_all := lw_g (lw_at lw_m9 0 rfl) rfl
theorem q2009 : (Jvm.Cond.methodLink "GrowingDoorLaw" (220 : Nat) ({ cls := "GrowingDoorModel", name := "decade", desc := "(IIII)I" } : Jvm.MethodName)) ∈ lw_all := lw_g (lw_at lw_m9 4 rfl) rfl
theorem q2025 : (Jvm.Cond.methodLink "GrowingDoorLaw" (224 : Nat) ({ cls := "GrowingDoorModel", name := "span", desc := "(IIIIII)I" } : Jvm.MethodName)) ∈ lw_all := lw_g (lw_at lw_m9 20 rfl) rfl
theorem q2029 : (Jvm.Cond.methodLink "GrowingDoorLaw" (228 : Nat) ({ cls := "GrowingDoorModel", name := "image", desc := "()I" } : Jvm.MethodName)) ∈ lw_all := lw_g (lw_at lw_m9 24 rfl) rfl
theorem q2041 : (Jvm.Cond.methodLink "GrowingDoorLaw" (232 : Nat) ({ cls := "GrowingDoorModel", name := "restore", desc := "()I" } : Jvm.MethodName)) ∈ lw_all := lw_g (lw_at lw_m9 36 rfl) rfl
theorem q2045 : (Jvm.Cond.methodLink "GrowingDoorLaw" (236 : Nat) ({ cls := "GrowingDoorModel", name := "status", desc := "(I)I" } : Jvm.MethodName)) ∈ lw_all := lw_g (lw_at lw_m9 40 rfl) rfl
theorem q2049 : (Jvm.Cond.methodLink "GrowingDoorLaw" (240 : Nat) ({ cls := "GrowingDoorModel", name := "count", desc := "(I)I" } : Jvm.MethodName)) ∈ lw_all := lw_g (lw_at lw_m9 44 rfl) rfl
/-! GrowingDoor$Law -/
set_option maxRecDepth 100000
def RX2 : String := "GrowingDoor$Law"
def TX2 : u_T := fun k => match k with
  | _ => ("GrowingDoor$Law", "term", "LGrowingDoor$Term;", false)
def tyX2 : Nat → FieldType := fun k => match k with
  | _ => .object "GrowingDoor$Term"
abbrev wsX20 : List Cond := u_ws RX2 TX2 1
theorem nmX2 : ∀ a, a < 1 → ∀ b, b < 1 → a ≠ b → (TX2 a).2.1 ≠ (TX2 b).2.1 := by decide +kernel
theorem tyX2_ok : ∀ k, k < 1 → parseFieldDescriptor (TX2 k).2.2.1 = some (tyX2 k) := by decide +kernel
abbrev cX2_init : ByteArray := prog_5_method_1_code
def yX2_init : MethodName := ⟨RX2, "<init>", "()V"⟩
theorem dX2_init_0 : decode cX2_init 0 = .ok (.aload_n 0, 1) := by decide +kernel
theorem dX2_init_1 : decode cX2_init 1 = .ok (.invokespecial 3, 3) := by decide +kernel
theorem dX2_init_4 : decode cX2_init 4 = .ok (.return_, 1) := by decide +kernel
abbrev cX2_grows : ByteArray := prog_5_method_2_code
def yX2_grows : MethodName := ⟨RX2, "grows", "(LGrowingDoor$Sight;)I"⟩
def dkwX2_grows_1 : List UInt8 := [180, 0, 9, 43, 185, 0, 21, 2, 0, 184, 0, 27, 184, 0, 33, 172]
abbrev dktX2_grows_1 : List UInt8 := dkwX2_grows_1 ++ []
def dkwX2_grows_0 : List UInt8 := [3, 16, 9, 42, 180, 0, 9, 199, 0, 14, 4, 43, 180, 0, 15, 6, 108, 96, 167, 0, 13, 42]
abbrev dktX2_grows_0 : List UInt8 := dkwX2_grows_0 ++ dktX2_grows_1
theorem dksX2_grows_0 : cX2_grows.data.toList.drop 0 = dktX2_grows_0 := by decide +kernel
theorem dksX2_grows_1 : cX2_grows.data.toList.drop 22 = dktX2_grows_1 := dk_seg dksX2_grows_0 22 rfl rfl
theorem dX2_grows_0 : decode cX2_grows 0 = .ok (.iconst 0, 1) := dk_3 (dk_at dksX2_grows_0 0 rfl rfl)
theorem dX2_grows_1 : decode cX2_grows 1 = .ok (.bipush 9, 2) := dk_16 9 (dk_at dksX2_grows_0 1 rfl rfl)
theorem dX2_grows_3 : decode cX2_grows 3 = .ok (.aload_n 0, 1) := dk_42 (dk_at dksX2_grows_0 3 rfl rfl)
theorem dX2_grows_4 : decode cX2_grows 4 = .ok (.getfield 9, 3) := dk_180 0 9 (dk_at dksX2_grows_0 4 rfl rfl)
theorem dX2_grows_7 : decode cX2_grows 7 = .ok (.ifnonnull 14, 3) := dk_199 0 14 (dk_at dksX2_grows_0 7 rfl rfl)
theorem dX2_grows_10 : decode cX2_grows 10 = .ok (.iconst 1, 1) := dk_4 (dk_at dksX2_grows_0 10 rfl rfl)
theorem dX2_grows_11 : decode cX2_grows 11 = .ok (.aload_n 1, 1) := dk_43 (dk_at dksX2_grows_0 11 rfl rfl)
theorem dX2_grows_12 : decode cX2_grows 12 = .ok (.getfield 15, 3) := dk_180 0 15 (dk_at dksX2_grows_0 12 rfl rfl)
theorem dX2_grows_15 : decode cX2_grows 15 = .ok (.iconst 3, 1) := dk_6 (dk_at dksX2_grows_0 15 rfl rfl)
theorem dX2_grows_16 : decode cX2_grows 16 = .ok (.idiv, 1) := dk_108 (dk_at dksX2_grows_0 16 rfl rfl)
theorem dX2_grows_17 : decode cX2_grows 17 = .ok (.iadd, 1) := dk_96 (dk_at dksX2_grows_0 17 rfl rfl)
theorem dX2_grows_18 : decode cX2_grows 18 = .ok (.goto 13, 3) := dk_167 0 13 (dk_at dksX2_grows_0 18 rfl rfl)
theorem dX2_grows_21 : decode cX2_grows 21 = .ok (.aload_n 0, 1) := dk_42 (dk_at dksX2_grows_0 21 rfl rfl)
theorem dX2_grows_22 : decode cX2_grows 22 = .ok (.getfield 9, 3) := dk_180 0 9 (dk_at dksX2_grows_1 0 rfl rfl)
theorem dX2_grows_25 : decode cX2_grows 25 = .ok (.aload_n 1, 1) := dk_43 (dk_at dksX2_grows_1 3 rfl rfl)
theorem dX2_grows_26 : decode cX2_grows 26 = .ok (.invokeinterface 21 2, 5) := by decide +kernel
theorem dX2_grows_31 : decode cX2_grows 31 = .ok (.invokestatic 27, 3) := dk_184 0 27 (dk_at dksX2_grows_1 9 rfl rfl)
theorem dX2_grows_34 : decode cX2_grows 34 = .ok (.invokestatic 33, 3) := dk_184 0 33 (dk_at dksX2_grows_1 12 rfl rfl)
theorem dX2_grows_37 : decode cX2_grows 37 = .ok (.ireturn, 1) := dk_172 (dk_at dksX2_grows_1 15 rfl rfl)
theorem q87 : (Jvm.Cond.initialized "GrowingDoor$Law") ∈ lw_all := lw_g (lw_at lw_m1 2 rfl) rfl
theorem q129 : (Jvm.Cond.instantiable "GrowingDoor$Law" (1 : Nat)) ∈ lw_all := lw_g (lw_at lw_m1 44 rfl) rfl
theorem q131 : (Jvm.Cond.instanceMethod ({ cls := "GrowingDoor$Law", name := "<init>", desc := "()V" } : Jvm.MethodName)) ∈ lw_all := lw_g (lw_at lw_m1 46 rfl) rfl
theorem q132 : (Jvm.Cond.code ({ cls := "GrowingDoor$Law", name := "<init>", desc := "()V" } : Jvm.MethodName) prog_5_method_1_code (1 : Nat) (Option.none : Option Jvm.ClassFile.FieldType)) ∈ lw_all := lw_g (lw_at lw_m1 47 rfl) rfl
theorem q133 : (Jvm.Cond.methodLink "GrowingDoor$Law" (3 : Nat) ({ cls := "java/lang/Object", name := "<init>", desc := "()V" } : Jvm.MethodName)) ∈ lw_all := lw_g (lw_at lw_m1 48 rfl) rfl
theorem q134 : (Jvm.Cond.fieldLink "GrowingDoor$Law" (9 : Nat) "GrowingDoor$Law" "term" "LGrowingDoor$Term;") ∈ lw_all := lw_g (lw_at lw_m1 49 rfl) rfl
theorem q136 : (Jvm.Cond.lays "GrowingDoor$Law" "GrowingDoor$Law" "term" "LGrowingDoor$Term;") ∈ lw_all := lw_g (lw_at lw_m1 51 rfl) rfl
theorem q137 : (Jvm.Cond.soleField "GrowingDoor$Law" "term") ∈ lw_all := lw_g (lw_at lw_m1 52 rfl) rfl
theorem q138 : (Jvm.Cond.superclass "GrowingDoor$Law" "java/lang/Object") ∈ lw_all := lw_g (lw_at lw_m1 53 rfl) rfl
theorem q159 : (Jvm.Cond.fieldLinkNest "GrowingDoor$Law" (15 : Nat) "GrowingDoor$Sight" "food" "I" "GrowingDoor") ∈ lw_tbl := lw_at lw_m1 74 rfl
theorem q1075 : (Jvm.Cond.instanceMethod ({ cls := "GrowingDoor$Law", name := "grows", desc := "(LGrowingDoor$Sight;)I" } : Jvm.MethodName)) ∈ lw_all := lw_g (lw_at lw_m5 30 rfl) rfl
theorem q1076 : (Jvm.Cond.selects "GrowingDoor$Law" ({ cls := "GrowingDoor$Law", name := "grows", desc := "(LGrowingDoor$Sight;)I" } : Jvm.MethodName) ({ cls := "GrowingDoor$Law", name := "grows", desc := "(LGrowingDoor$Sight;)I" } : Jvm.MethodName)) ∈ lw_all := lw_g (lw_at lw_m5 31 rfl) rfl
theorem q1077 : (Jvm.Cond.code ({ cls := "GrowingDoor$Law", name := "grows", desc := "(LGrowingDoor$Sight;)I" } : Jvm.MethodName) prog_5_method_2_code (2 : Nat) (Option.some Jvm.ClassFile.FieldType.int)) ∈ lw_all := lw_g (lw_at lw_m5 32 rfl) rfl
theorem q1078 : (Jvm.Cond.interfaceEntry "GrowingDoor$Law" (21 : Nat)) ∈ lw_tbl := lw_at lw_m5 33 rfl
theorem q1079 : (Jvm.Cond.methodLink "GrowingDoor$Law" (21 : Nat) ({ cls := "GrowingDoor$Term", name := "on", desc := "(LGrowingDoor$Sight;)I" } : Jvm.MethodName)) ∈ lw_all := lw_g (lw_at lw_m5 34 rfl) rfl
theorem q1108 : (Jvm.Cond.methodLink "GrowingDoor$Law" (27 : Nat) ({ cls := "java/lang/Math", name := "min", desc := "(II)I" } : Jvm.MethodName)) ∈ lw_all := lw_g (lw_at lw_m5 63 rfl) rfl
theorem q1109 : (Jvm.Cond.methodLink "GrowingDoor$Law" (33 : Nat) ({ cls := "java/lang/Math", name := "max", desc := "(II)I" } : Jvm.MethodName)) ∈ lw_all := lw_g (lw_at lw_m5 64 rfl) rfl
theorem q2055 : (Jvm.Cond.castable "GrowingDoor$Law" "java/lang/Object") ∈ lw_tbl := lw_at lw_m9 50 rfl
theorem in_X2 : ∀ w ∈ wsX20, w ∈ lw_all := lw_in wsX20 [136] (by decide +kernel) (by decide +kernel)
/-! GrowingDoor$Kept -/
set_option maxRecDepth 100000
def RX3 : String := "GrowingDoor$Kept"
def TX3 : u_T := fun k => match k with
  | 0 => ("GrowingDoor$Kept", "states", "[LGrowingDoor$State;", true)
  | _ => ("GrowingDoor$Kept", "many", "I", false)
def tyX3 : Nat → FieldType := fun k => match k with
  | 0 => .array (.object "GrowingDoor$State")
  | _ => .int
abbrev wsX30 : List Cond := u_ws RX3 TX3 2
theorem nmX3 : ∀ a, a < 2 → ∀ b, b < 2 → a ≠ b → (TX3 a).2.1 ≠ (TX3 b).2.1 := by decide +kernel
theorem tyX3_ok : ∀ k, k < 2 → parseFieldDescriptor (TX3 k).2.2.1 = some (tyX3 k) := by decide +kernel
abbrev cX3_init : ByteArray := prog_3_method_1_code
def yX3_init : MethodName := ⟨RX3, "<init>", "(LGrowingDoor$Law;)V"⟩
def dkwX3_init_1 : List UInt8 := [180, 0, 11, 28, 187, 0, 9, 89, 43, 183, 0, 17, 83, 132, 2, 1, 167, 255, 233, 177]
abbrev dktX3_init_1 : List UInt8 := dkwX3_init_1 ++ []
def dkwX3_init_0 : List UInt8 := [42, 183, 0, 3, 42, 16, 17, 189, 0, 9, 181, 0, 11, 3, 61, 28, 16, 16, 163, 0, 23, 42]
abbrev dktX3_init_0 : List UInt8 := dkwX3_init_0 ++ dktX3_init_1
theorem dksX3_init_0 : cX3_init.data.toList.drop 0 = dktX3_init_0 := by decide +kernel
theorem dksX3_init_1 : cX3_init.data.toList.drop 22 = dktX3_init_1 := dk_seg dksX3_init_0 22 rfl rfl
theorem dX3_init_0 : decode cX3_init 0 = .ok (.aload_n 0, 1) := dk_42 (dk_at dksX3_init_0 0 rfl rfl)
theorem dX3_init_1 : decode cX3_init 1 = .ok (.invokespecial 3, 3) := dk_183 0 3 (dk_at dksX3_init_0 1 rfl rfl)
theorem dX3_init_4 : decode cX3_init 4 = .ok (.aload_n 0, 1) := dk_42 (dk_at dksX3_init_0 4 rfl rfl)
theorem dX3_init_5 : decode cX3_init 5 = .ok (.bipush 17, 2) := dk_16 17 (dk_at dksX3_init_0 5 rfl rfl)
theorem dX3_init_7 : decode cX3_init 7 = .ok (.anewarray 9, 3) := dk_189 0 9 (dk_at dksX3_init_0 7 rfl rfl)
theorem dX3_init_10 : decode cX3_init 10 = .ok (.putfield 11, 3) := dk_181 0 11 (dk_at dksX3_init_0 10 rfl rfl)
theorem dX3_init_13 : decode cX3_init 13 = .ok (.iconst 0, 1) := dk_3 (dk_at dksX3_init_0 13 rfl rfl)
theorem dX3_init_14 : decode cX3_init 14 = .ok (.istore_n 2, 1) := dk_61 (dk_at dksX3_init_0 14 rfl rfl)
theorem dX3_init_15 : decode cX3_init 15 = .ok (.iload_n 2, 1) := dk_28 (dk_at dksX3_init_0 15 rfl rfl)
theorem dX3_init_16 : decode cX3_init 16 = .ok (.bipush 16, 2) := dk_16 16 (dk_at dksX3_init_0 16 rfl rfl)
theorem dX3_init_18 : decode cX3_init 18 = .ok (.if_icmp .gt 23, 3) := dk_163 0 23 (dk_at dksX3_init_0 18 rfl rfl)
theorem dX3_init_21 : decode cX3_init 21 = .ok (.aload_n 0, 1) := dk_42 (dk_at dksX3_init_0 21 rfl rfl)
theorem dX3_init_22 : decode cX3_init 22 = .ok (.getfield 11, 3) := dk_180 0 11 (dk_at dksX3_init_1 0 rfl rfl)
theorem dX3_init_25 : decode cX3_init 25 = .ok (.iload_n 2, 1) := dk_28 (dk_at dksX3_init_1 3 rfl rfl)
theorem dX3_init_26 : decode cX3_init 26 = .ok (.new 9, 3) := dk_187 0 9 (dk_at dksX3_init_1 4 rfl rfl)
theorem dX3_init_29 : decode cX3_init 29 = .ok (.dup, 1) := dk_89 (dk_at dksX3_init_1 7 rfl rfl)
theorem dX3_init_30 : decode cX3_init 30 = .ok (.aload_n 1, 1) := dk_43 (dk_at dksX3_init_1 8 rfl rfl)
theorem dX3_init_31 : decode cX3_init 31 = .ok (.invokespecial 17, 3) := dk_183 0 17 (dk_at dksX3_init_1 9 rfl rfl)
theorem dX3_init_34 : decode cX3_init 34 = .ok (.aastore, 1) := dk_83 (dk_at dksX3_init_1 12 rfl rfl)
theorem dX3_init_35 : decode cX3_init 35 = .ok (.iinc 2 1, 3) := dk_132 2 1 (dk_at dksX3_init_1 13 rfl rfl)
theorem dX3_init_38 : decode cX3_init 38 = .ok (.goto (-23), 3) := dk_167 255 233 (dk_at dksX3_init_1 16 rfl rfl)
theorem dX3_init_41 : decode cX3_init 41 = .ok (.return_, 1) := dk_177 (dk_at dksX3_init_1 19 rfl rfl)
abbrev cX3_now : ByteArray := prog_3_method_3_code
def yX3_now : MethodName := ⟨RX3, "now", "()LGrowingDoor$State;"⟩
def dkwX3_now_0 : List UInt8 := [42, 180, 0, 11, 42, 180, 0, 20, 50, 176]
abbrev dktX3_now_0 : List UInt8 := dkwX3_now_0 ++ []
theorem dksX3_now_0 : cX3_now.data.toList.drop 0 = dktX3_now_0 := by decide +kernel
theorem dX3_now_0 : decode cX3_now 0 = .ok (.aload_n 0, 1) := dk_42 (dk_at dksX3_now_0 0 rfl rfl)
theorem dX3_now_1 : decode cX3_now 1 = .ok (.getfield 11, 3) := dk_180 0 11 (dk_at dksX3_now_0 1 rfl rfl)
theorem dX3_now_4 : decode cX3_now 4 = .ok (.aload_n 0, 1) := dk_42 (dk_at dksX3_now_0 4 rfl rfl)
theorem dX3_now_5 : decode cX3_now 5 = .ok (.getfield 20, 3) := dk_180 0 20 (dk_at dksX3_now_0 5 rfl rfl)
theorem dX3_now_8 : decode cX3_now 8 = .ok (.aaload, 1) := dk_50 (dk_at dksX3_now_0 8 rfl rfl)
theorem dX3_now_9 : decode cX3_now 9 = .ok (.areturn, 1) := dk_176 (dk_at dksX3_now_0 9 rfl rfl)
abbrev cX3_as : ByteArray := prog_3_method_2_code
def yX3_as : MethodName := ⟨RX3, "as", "(LGrowingDoor$Kept;)V"⟩
def dkwX3_as_1 : List UInt8 := [43, 180, 0, 11, 28, 50, 182, 0, 24, 87, 132, 2, 1, 167, 255, 229, 177]
abbrev dktX3_as_1 : List UInt8 := dkwX3_as_1 ++ []
def dkwX3_as_0 : List UInt8 := [42, 43, 180, 0, 20, 181, 0, 20, 3, 61, 28, 42, 180, 0, 20, 163, 0, 25, 42, 180, 0, 11, 28, 50]
abbrev dktX3_as_0 : List UInt8 := dkwX3_as_0 ++ dktX3_as_1
theorem dksX3_as_0 : cX3_as.data.toList.drop 0 = dktX3_as_0 := by decide +kernel
theorem dksX3_as_1 : cX3_as.data.toList.drop 24 = dktX3_as_1 := dk_seg dksX3_as_0 24 rfl rfl
theorem dX3_as_0 : decode cX3_as 0 = .ok (.aload_n 0, 1) := dk_42 (dk_at dksX3_as_0 0 rfl rfl)
theorem dX3_as_1 : decode cX3_as 1 = .ok (.aload_n 1, 1) := dk_43 (dk_at dksX3_as_0 1 rfl rfl)
theorem dX3_as_2 : decode cX3_as 2 = .ok (.getfield 20, 3) := dk_180 0 20 (dk_at dksX3_as_0 2 rfl rfl)
theorem dX3_as_5 : decode cX3_as 5 = .ok (.putfield 20, 3) := dk_181 0 20 (dk_at dksX3_as_0 5 rfl rfl)
theorem dX3_as_8 : decode cX3_as 8 = .ok (.iconst 0, 1) := dk_3 (dk_at dksX3_as_0 8 rfl rfl)
theorem dX3_as_9 : decode cX3_as 9 = .ok (.istore_n 2, 1) := dk_61 (dk_at dksX3_as_0 9 rfl rfl)
theorem dX3_as_10 : decode cX3_as 10 = .ok (.iload_n 2, 1) := dk_28 (dk_at dksX3_as_0 10 rfl rfl)
theorem dX3_as_11 : decode cX3_as 11 = .ok (.aload_n 0, 1) := dk_42 (dk_at dksX3_as_0 11 rfl rfl)
theorem dX3_as_12 : decode cX3_as 12 = .ok (.getfield 20, 3) := dk_180 0 20 (dk_at dksX3_as_0 12 rfl rfl)
theorem dX3_as_15 : decode cX3_as 15 = .ok (.if_icmp .gt 25, 3) := dk_163 0 25 (dk_at dksX3_as_0 15 rfl rfl)
theorem dX3_as_18 : decode cX3_as 18 = .ok (.aload_n 0, 1) := dk_42 (dk_at dksX3_as_0 18 rfl rfl)
theorem dX3_as_19 : decode cX3_as 19 = .ok (.getfield 11, 3) := dk_180 0 11 (dk_at dksX3_as_0 19 rfl rfl)
theorem dX3_as_22 : decode cX3_as 22 = .ok (.iload_n 2, 1) := dk_28 (dk_at dksX3_as_0 22 rfl rfl)
theorem dX3_as_23 : decode cX3_as 23 = .ok (.aaload, 1) := dk_50 (dk_at dksX3_as_0 23 rfl rfl)
theorem dX3_as_24 : decode cX3_as 24 = .ok (.aload_n 1, 1) := dk_43 (dk_at dksX3_as_1 0 rfl rfl)
theorem dX3_as_25 : decode cX3_as 25 = .ok (.getfield 11, 3) := dk_180 0 11 (dk_at dksX3_as_1 1 rfl rfl)
theorem dX3_as_28 : decode cX3_as 28 = .ok (.iload_n 2, 1) := dk_28 (dk_at dksX3_as_1 4 rfl rfl)
theorem dX3_as_29 : decode cX3_as 29 = .ok (.aaload, 1) := dk_50 (dk_at dksX3_as_1 5 rfl rfl)
theorem dX3_as_30 : decode cX3_as 30 = .ok (.invokevirtual 24, 3) := dk_182 0 24 (dk_at dksX3_as_1 6 rfl rfl)
theorem dX3_as_33 : decode cX3_as 33 = .ok (.pop, 1) := dk_87 (dk_at dksX3_as_1 9 rfl rfl)
theorem dX3_as_34 : decode cX3_as 34 = .ok (.iinc 2 1, 3) := dk_132 2 1 (dk_at dksX3_as_1 10 rfl rfl)
theorem dX3_as_37 : decode cX3_as 37 = .ok (.goto (-27), 3) := dk_167 255 229 (dk_at dksX3_as_1 13 rfl rfl)
theorem dX3_as_40 : decode cX3_as 40 = .ok (.return_, 1) := dk_177 (dk_at dksX3_as_1 16 rfl rfl)
theorem q88 : (Jvm.Cond.initialized "GrowingDoor$Kept") ∈ lw_all := lw_g (lw_at lw_m1 3 rfl) rfl
theorem q141 : (Jvm.Cond.instantiable "GrowingDoor$Kept" (2 : Nat)) ∈ lw_all := lw_g (lw_at lw_m1 56 rfl) rfl
theorem q143 : (Jvm.Cond.instanceMethod ({ cls := "GrowingDoor$Kept", name := "<init>", desc := "(LGrowingDoor$Law;)V" } : Jvm.MethodName)) ∈ lw_all := lw_g (lw_at lw_m1 58 rfl) rfl
theorem q144 : (Jvm.Cond.code ({ cls := "GrowingDoor$Kept", name := "<init>", desc := "(LGrowingDoor$Law;)V" } : Jvm.MethodName) prog_3_method_1_code (3 : Nat) (Option.none : Option Jvm.ClassFile.FieldType)) ∈ lw_all := lw_g (lw_at lw_m1 59 rfl) rfl
theorem q145 : (Jvm.Cond.methodLink "GrowingDoor$Kept" (3 : Nat) ({ cls := "java/lang/Object", name := "<init>", desc := "()V" } : Jvm.MethodName)) ∈ lw_all := lw_g (lw_at lw_m1 60 rfl) rfl
theorem q146 : (Jvm.Cond.classLink "GrowingDoor$Kept" (9 : Nat) "GrowingDoor$State") ∈ lw_all := lw_g (lw_at lw_m1 61 rfl) rfl
theorem q149 : (Jvm.Cond.methodLink "GrowingDoor$Kept" (17 : Nat) ({ cls := "GrowingDoor$State", name := "<init>", desc := "(LGrowingDoor$Law;)V" } : Jvm.MethodName)) ∈ lw_all := lw_g (lw_at lw_m1 64 rfl) rfl
theorem q309 : (Jvm.Cond.fieldLink "GrowingDoor$Kept" (11 : Nat) "GrowingDoor$Kept" "states" "[LGrowingDoor$State;") ∈ lw_all := lw_g (lw_at lw_m1 224 rfl) rfl
theorem q310 : (Jvm.Cond.fieldLink "GrowingDoor$Kept" (20 : Nat) "GrowingDoor$Kept" "many" "I") ∈ lw_all := lw_g (lw_at lw_m1 225 rfl) rfl
theorem q312 : (Jvm.Cond.laysFinal "GrowingDoor$Kept" "GrowingDoor$Kept" "states" "[LGrowingDoor$State;") ∈ lw_all := lw_g (lw_at lw_m1 227 rfl) rfl
theorem q313 : (Jvm.Cond.soleField "GrowingDoor$Kept" "states") ∈ lw_all := lw_g (lw_at lw_m1 228 rfl) rfl
theorem q314 : (Jvm.Cond.lays "GrowingDoor$Kept" "GrowingDoor$Kept" "many" "I") ∈ lw_all := lw_g (lw_at lw_m1 229 rfl) rfl
theorem q315 : (Jvm.Cond.soleField "GrowingDoor$Kept" "many") ∈ lw_all := lw_g (lw_at lw_m1 230 rfl) rfl
theorem q316 : (Jvm.Cond.superclass "GrowingDoor$Kept" "java/lang/Object") ∈ lw_all := lw_g (lw_at lw_m1 231 rfl) rfl
theorem q346 : (Jvm.Cond.instanceMethod ({ cls := "GrowingDoor$Kept", name := "now", desc := "()LGrowingDoor$State;" } : Jvm.MethodName)) ∈ lw_all := lw_g (lw_at lw_m2 21 rfl) rfl
theorem q347 : (Jvm.Cond.selects "GrowingDoor$Kept" ({ cls := "GrowingDoor$Kept", name := "now", desc := "()LGrowingDoor$State;" } : Jvm.MethodName) ({ cls := "GrowingDoor$Kept", name := "now", desc := "()LGrowingDoor$State;" } : Jvm.MethodName)) ∈ lw_all := lw_g (lw_at lw_m2 22 rfl) rfl
theorem q348 : (Jvm.Cond.code ({ cls := "GrowingDoor$Kept", name := "now", desc := "()LGrowingDoor$State;" } : Jvm.MethodName) prog_3_method_3_code (1 : Nat) (Option.some (Jvm.ClassFile.FieldType.object "GrowingDoor$State"))) ∈ lw_all := lw_g (lw_at lw_m2 23 rfl) rfl
theorem q485 : (Jvm.Cond.instanceMethod ({ cls := "GrowingDoor$Kept", name := "as", desc := "(LGrowingDoor$Kept;)V" } : Jvm.MethodName)) ∈ lw_all := lw_g (lw_at lw_m2 160 rfl) rfl
theorem q486 : (Jvm.Cond.selects "GrowingDoor$Kept" ({ cls := "GrowingDoor$Kept", name := "as", desc := "(LGrowingDoor$Kept;)V" } : Jvm.MethodName) ({ cls := "GrowingDoor$Kept", name := "as", desc := "(LGrowingDoor$Kept;)V" } : Jvm.MethodName)) ∈ lw_all := lw_g (lw_at lw_m2 161 rfl) rfl
theorem q487 : (Jvm.Cond.code ({ cls := "GrowingDoor$Kept", name := "as", desc := "(LGrowingDoor$Kept;)V" } : Jvm.MethodName) prog_3_method_2_code (3 : Nat) (Option.none : Option Jvm.ClassFile.FieldType)) ∈ lw_all := lw_g (lw_at lw_m2 162 rfl) rfl
theorem q488 : (Jvm.Cond.methodLink "GrowingDoor$Kept" (24 : Nat) ({ cls := "GrowingDoor$State", name := "as", desc := "(LGrowingDoor$State;)LGrowingDoor$State;" } : Jvm.MethodName)) ∈ lw_all := lw_g (lw_at lw_m2 163 rfl) rfl
theorem q2056 : (Jvm.Cond.castable "GrowingDoor$Kept" "java/lang/Object") ∈ lw_tbl := lw_at lw_m9 51 rfl
theorem in_X3 : ∀ w ∈ wsX30, w ∈ lw_all := lw_in wsX30 [312, 314] (by decide +kernel) (by decide +kernel)
/-! GrowingDoor$State -/
set_option maxRecDepth 100000
def RX4 : String := "GrowingDoor$State"
def TX4 : u_T := fun k => match k with
  | 0 => ("GrowingDoor$State", "thick", "[I", true)
  | 1 => ("GrowingDoor$State", "high", "[I", true)
  | 2 => ("GrowingDoor$State", "food", "[I", true)
  | 3 => ("GrowingDoor$State", "on", "[I", true)
  | 4 => ("GrowingDoor$State", "above", "[I", true)
  | 5 => ("GrowingDoor$State", "cut", "[I", true)
  | 6 => ("GrowingDoor$State", "more", "[I", true)
  | 7 => ("GrowingDoor$State", "sight", "LGrowingDoor$Sight;", true)
  | 8 => ("GrowingDoor$State", "law", "LGrowingDoor$Law;", true)
  | 9 => ("GrowingDoor$State", "school", "LGrowingDoor$School;", false)
  | 10 => ("GrowingDoor$State", "month", "I", false)
  | 11 => ("GrowingDoor$State", "oil", "I", false)
  | 12 => ("GrowingDoor$State", "away", "I", false)
  | _ => ("GrowingDoor$State", "always", "I", false)
def tyX4 : Nat → FieldType := fun k => match k with
  | 0 => .array .int
  | 1 => .array .int
  | 2 => .array .int
  | 3 => .array .int
  | 4 => .array .int
  | 5 => .array .int
  | 6 => .array .int
  | 7 => .object "GrowingDoor$Sight"
  | 8 => .object "GrowingDoor$Law"
  | 9 => .object "GrowingDoor$School"
  | 10 => .int
  | 11 => .int
  | 12 => .int
  | _ => .int
abbrev wsX40 : List Cond := u_ws RX4 TX4 14
set_option maxRecDepth 100000 in
theorem nmX4 : ∀ a, a < 14 → ∀ b, b < 14 → a ≠ b → (TX4 a).2.1 ≠ (TX4 b).2.1 := by decide +kernel
set_option maxRecDepth 100000 in
theorem tyX4_ok : ∀ k, k < 14 → parseFieldDescriptor (TX4 k).2.2.1 = some (tyX4 k) := by decide +kernel
abbrev cX4_init : ByteArray := prog_17_method_1_code
def yX4_init : MethodName := ⟨RX4, "<init>", "(LGrowingDoor$Law;)V"⟩
def dkwX4_init_3 : List UInt8 := [42, 187, 0, 40, 89, 183, 0, 42, 181, 0, 43, 42, 43, 181, 0, 47, 177]
abbrev dktX4_init_3 : List UInt8 := dkwX4_init_3 ++ []
def dkwX4_init_2 : List UInt8 := [188, 10, 181, 0, 27, 42, 16, 7, 188, 10, 181, 0, 30, 42, 187, 0, 33, 89, 183, 0, 35, 181, 0, 36]
abbrev dktX4_init_2 : List UInt8 := dkwX4_init_2 ++ dktX4_init_3
def dkwX4_init_1 : List UInt8 := [188, 10, 181, 0, 18, 42, 16, 7, 188, 10, 181, 0, 21, 42, 16, 7, 188, 10, 181, 0, 24, 42, 16, 7]
abbrev dktX4_init_1 : List UInt8 := dkwX4_init_1 ++ dktX4_init_2
def dkwX4_init_0 : List UInt8 := [42, 183, 0, 3, 42, 16, 6, 188, 10, 181, 0, 9, 42, 16, 7, 188, 10, 181, 0, 15, 42, 16, 7]
abbrev dktX4_init_0 : List UInt8 := dkwX4_init_0 ++ dktX4_init_1
theorem dksX4_init_0 : cX4_init.data.toList.drop 0 = dktX4_init_0 := by decide +kernel
theorem dksX4_init_1 : cX4_init.data.toList.drop 23 = dktX4_init_1 := dk_seg dksX4_init_0 23 rfl rfl
theorem dksX4_init_2 : cX4_init.data.toList.drop 47 = dktX4_init_2 := dk_seg dksX4_init_1 24 rfl rfl
theorem dksX4_init_3 : cX4_init.data.toList.drop 71 = dktX4_init_3 := dk_seg dksX4_init_2 24 rfl rfl
theorem dX4_init_0 : decode cX4_init 0 = .ok (.aload_n 0, 1) := dk_42 (dk_at dksX4_init_0 0 rfl rfl)
theorem dX4_init_1 : decode cX4_init 1 = .ok (.invokespecial 3, 3) := dk_183 0 3 (dk_at dksX4_init_0 1 rfl rfl)
theorem dX4_init_4 : decode cX4_init 4 = .ok (.aload_n 0, 1) := dk_42 (dk_at dksX4_init_0 4 rfl rfl)
theorem dX4_init_5 : decode cX4_init 5 = .ok (.bipush 6, 2) := dk_16 6 (dk_at dksX4_init_0 5 rfl rfl)
theorem dX4_init_7 : decode cX4_init 7 = .ok (.newarray .int, 2) := dk_188_10 (dk_at dksX4_init_0 7 rfl rfl)
theorem dX4_init_9 : decode cX4_init 9 = .ok (.putfield 9, 3) := dk_181 0 9 (dk_at dksX4_init_0 9 rfl rfl)
theorem dX4_init_12 : decode cX4_init 12 = .ok (.aload_n 0, 1) := dk_42 (dk_at dksX4_init_0 12 rfl rfl)
theorem dX4_init_13 : decode cX4_init 13 = .ok (.bipush 7, 2) := dk_16 7 (dk_at dksX4_init_0 13 rfl rfl)
theorem dX4_init_15 : decode cX4_init 15 = .ok (.newarray .int, 2) := dk_188_10 (dk_at dksX4_init_0 15 rfl rfl)
theorem dX4_init_17 : decode cX4_init 17 = .ok (.putfield 15, 3) := dk_181 0 15 (dk_at dksX4_init_0 17 rfl rfl)
theorem dX4_init_20 : decode cX4_init 20 = .ok (.aload_n 0, 1) := dk_42 (dk_at dksX4_init_0 20 rfl rfl)
theorem dX4_init_21 : decode cX4_init 21 = .ok (.bipush 7, 2) := dk_16 7 (dk_at dksX4_init_0 21 rfl rfl)
theorem dX4_init_23 : decode cX4_init 23 = .ok (.newarray .int, 2) := dk_188_10 (dk_at dksX4_init_1 0 rfl rfl)
theorem dX4_init_25 : decode cX4_init 25 = .ok (.putfield 18, 3) := dk_181 0 18 (dk_at dksX4_init_1 2 rfl rfl)
theorem dX4_init_28 : decode cX4_init 28 = .ok (.aload_n 0, 1) := dk_42 (dk_at dksX4_init_1 5 rfl rfl)
theorem dX4_init_29 : decode cX4_init 29 = .ok (.bipush 7, 2) := dk_16 7 (dk_at dksX4_init_1 6 rfl rfl)
theorem dX4_init_31 : decode cX4_init 31 = .ok (.newarray .int, 2) := dk_188_10 (dk_at dksX4_init_1 8 rfl rfl)
theorem dX4_init_33 : decode cX4_init 33 = .ok (.putfield 21, 3) := dk_181 0 21 (dk_at dksX4_init_1 10 rfl rfl)
theorem dX4_init_36 : decode cX4_init 36 = .ok (.aload_n 0, 1) := dk_42 (dk_at dksX4_init_1 13 rfl rfl)
theorem dX4_init_37 : decode cX4_init 37 = .ok (.bipush 7, 2) := dk_16 7 (dk_at dksX4_init_1 14 rfl rfl)
theorem dX4_init_39 : decode cX4_init 39 = .ok (.newarray .int, 2) := dk_188_10 (dk_at dksX4_init_1 16 rfl rfl)
theorem dX4_init_41 : decode cX4_init 41 = .ok (.putfield 24, 3) := dk_181 0 24 (dk_at dksX4_init_1 18 rfl rfl)
theorem dX4_init_44 : decode cX4_init 44 = .ok (.aload_n 0, 1) := dk_42 (dk_at dksX4_init_1 21 rfl rfl)
theorem dX4_init_45 : decode cX4_init 45 = .ok (.bipush 7, 2) := dk_16 7 (dk_at dksX4_init_1 22 rfl rfl)
theorem dX4_init_47 : decode cX4_init 47 = .ok (.newarray .int, 2) := dk_188_10 (dk_at dksX4_init_2 0 rfl rfl)
theorem dX4_init_49 : decode cX4_init 49 = .ok (.putfield 27, 3) := dk_181 0 27 (dk_at dksX4_init_2 2 rfl rfl)
theorem dX4_init_52 : decode cX4_init 52 = .ok (.aload_n 0, 1) := dk_42 (dk_at dksX4_init_2 5 rfl rfl)
theorem dX4_init_53 : decode cX4_init 53 = .ok (.bipush 7, 2) := dk_16 7 (dk_at dksX4_init_2 6 rfl rfl)
theorem dX4_init_55 : decode cX4_init 55 = .ok (.newarray .int, 2) := dk_188_10 (dk_at dksX4_init_2 8 rfl rfl)
theorem dX4_init_57 : decode cX4_init 57 = .ok (.putfield 30, 3) := dk_181 0 30 (dk_at dksX4_init_2 10 rfl rfl)
theorem dX4_init_60 : decode cX4_init 60 = .ok (.aload_n 0, 1) := dk_42 (dk_at dksX4_init_2 13 rfl rfl)
theorem dX4_init_61 : decode cX4_init 61 = .ok (.new 33, 3) := dk_187 0 33 (dk_at dksX4_init_2 14 rfl rfl)
theorem dX4_init_64 : decode cX4_init 64 = .ok (.dup, 1) := dk_89 (dk_at dksX4_init_2 17 rfl rfl)
theorem dX4_init_65 : decode cX4_init 65 = .ok (.invokespecial 35, 3) := dk_183 0 35 (dk_at dksX4_init_2 18 rfl rfl)
theorem dX4_init_68 : decode cX4_init 68 = .ok (.putfield 36, 3) := dk_181 0 36 (dk_at dksX4_init_2 21 rfl rfl)
theorem dX4_init_71 : decode cX4_init 71 = .ok (.aload_n 0, 1) := dk_42 (dk_at dksX4_init_3 0 rfl rfl)
theorem dX4_init_72 : decode cX4_init 72 = .ok (.new 40, 3) := dk_187 0 40 (dk_at dksX4_init_3 1 rfl rfl)
theorem dX4_init_75 : decode cX4_init 75 = .ok (.dup, 1) := dk_89 (dk_at dksX4_init_3 4 rfl rfl)
theorem dX4_init_76 : decode cX4_init 76 = .ok (.invokespecial 42, 3) := dk_183 0 42 (dk_at dksX4_init_3 5 rfl rfl)
theorem dX4_init_79 : decode cX4_init 79 = .ok (.putfield 43, 3) := dk_181 0 43 (dk_at dksX4_init_3 8 rfl rfl)
theorem dX4_init_82 : decode cX4_init 82 = .ok (.aload_n 0, 1) := dk_42 (dk_at dksX4_init_3 11 rfl rfl)
theorem dX4_init_83 : decode cX4_init 83 = .ok (.aload_n 1, 1) := dk_43 (dk_at dksX4_init_3 12 rfl rfl)
theorem dX4_init_84 : decode cX4_init 84 = .ok (.putfield 47, 3) := dk_181 0 47 (dk_at dksX4_init_3 13 rfl rfl)
theorem dX4_init_87 : decode cX4_init 87 = .ok (.return_, 1) := dk_177 (dk_at dksX4_init_3 16 rfl rfl)
abbrev cX4_begins : ByteArray := prog_17_method_2_code
def yX4_begins : MethodName := ⟨RX4, "begins", "(LGrowingDoor$School;)V"⟩
def dkwX4_begins_4 : List UInt8 := [180, 0, 27, 28, 2, 79, 132, 2, 1, 167, 255, 226, 177]
abbrev dktX4_begins_4 : List UInt8 := dkwX4_begins_4 ++ []
def dkwX4_begins_3 : List UInt8 := [3, 61, 28, 16, 7, 162, 0, 30, 42, 180, 0, 21, 28, 2, 79, 42, 180, 0, 24, 28, 3, 79, 42]
abbrev dktX4_begins_3 : List UInt8 := dkwX4_begins_3 ++ dktX4_begins_4
def dkwX4_begins_2 : List UInt8 := [180, 0, 15, 3, 16, 7, 184, 0, 65, 43, 180, 0, 72, 3, 42, 180, 0, 18, 3, 16, 7, 184, 0, 65]
abbrev dktX4_begins_2 : List UInt8 := dkwX4_begins_2 ++ dktX4_begins_3
def dkwX4_begins_1 : List UInt8 := [181, 0, 61, 43, 180, 0, 64, 3, 42, 180, 0, 9, 3, 16, 6, 184, 0, 65, 43, 180, 0, 71, 3, 42]
abbrev dktX4_begins_1 : List UInt8 := dkwX4_begins_1 ++ dktX4_begins_2
def dkwX4_begins_0 : List UInt8 := [42, 43, 181, 0, 43, 42, 3, 181, 0, 51, 42, 3, 181, 0, 55, 42, 3, 181, 0, 58, 42, 2]
abbrev dktX4_begins_0 : List UInt8 := dkwX4_begins_0 ++ dktX4_begins_1
theorem dksX4_begins_0 : cX4_begins.data.toList.drop 0 = dktX4_begins_0 := by decide +kernel
theorem dksX4_begins_1 : cX4_begins.data.toList.drop 22 = dktX4_begins_1 := dk_seg dksX4_begins_0 22 rfl rfl
theorem dksX4_begins_2 : cX4_begins.data.toList.drop 46 = dktX4_begins_2 := dk_seg dksX4_begins_1 24 rfl rfl
theorem dksX4_begins_3 : cX4_begins.data.toList.drop 70 = dktX4_begins_3 := dk_seg dksX4_begins_2 24 rfl rfl
theorem dksX4_begins_4 : cX4_begins.data.toList.drop 93 = dktX4_begins_4 := dk_seg dksX4_begins_3 23 rfl rfl
theorem dX4_begins_0 : decode cX4_begins 0 = .ok (.aload_n 0, 1) := dk_42 (dk_at dksX4_begins_0 0 rfl rfl)
theorem dX4_begins_1 : decode cX4_begins 1 = .ok (.aload_n 1, 1) := dk_43 (dk_at dksX4_begins_0 1 rfl rfl)
theorem dX4_begins_2 : decode cX4_begins 2 = .ok (.putfield 43, 3) := dk_181 0 43 (dk_at dksX4_begins_0 2 rfl rfl)
theorem dX4_begins_5 : decode cX4_begins 5 = .ok (.aload_n 0, 1) := dk_42 (dk_at dksX4_begins_0 5 rfl rfl)
theorem dX4_begins_6 : decode cX4_begins 6 = .ok (.iconst 0, 1) := dk_3 (dk_at dksX4_begins_0 6 rfl rfl)
theorem dX4_begins_7 : decode cX4_begins 7 = .ok (.putfield 51, 3) := dk_181 0 51 (dk_at dksX4_begins_0 7 rfl rfl)
theorem dX4_begins_10 : decode cX4_begins 10 = .ok (.aload_n 0, 1) := dk_42 (dk_at dksX4_begins_0 10 rfl rfl)
theorem dX4_begins_11 : decode cX4_begins 11 = .ok (.iconst 0, 1) := dk_3 (dk_at dksX4_begins_0 11 rfl rfl)
theorem dX4_begins_12 : decode cX4_begins 12 = .ok (.putfield 55, 3) := dk_181 0 55 (dk_at dksX4_begins_0 12 rfl rfl)
theorem dX4_begins_15 : decode cX4_begins 15 = .ok (.aload_n 0, 1) := dk_42 (dk_at dksX4_begins_0 15 rfl rfl)
theorem dX4_begins_16 : decode cX4_begins 16 = .ok (.iconst 0, 1) := dk_3 (dk_at dksX4_begins_0 16 rfl rfl)
theorem dX4_begins_17 : decode cX4_begins 17 = .ok (.putfield 58, 3) := dk_181 0 58 (dk_at dksX4_begins_0 17 rfl rfl)
theorem dX4_begins_20 : decode cX4_begins 20 = .ok (.aload_n 0, 1) := dk_42 (dk_at dksX4_begins_0 20 rfl rfl)
theorem dX4_begins_21 : decode cX4_begins 21 = .ok (.iconst (-1), 1) := dk_2 (dk_at dksX4_begins_0 21 rfl rfl)
theorem dX4_begins_22 : decode cX4_begins 22 = .ok (.putfield 61, 3) := dk_181 0 61 (dk_at dksX4_begins_1 0 rfl rfl)
theorem dX4_begins_25 : decode cX4_begins 25 = .ok (.aload_n 1, 1) := dk_43 (dk_at dksX4_begins_1 3 rfl rfl)
theorem dX4_begins_26 : decode cX4_begins 26 = .ok (.getfield 64, 3) := dk_180 0 64 (dk_at dksX4_begins_1 4 rfl rfl)
theorem dX4_begins_29 : decode cX4_begins 29 = .ok (.iconst 0, 1) := dk_3 (dk_at dksX4_begins_1 7 rfl rfl)
theorem dX4_begins_30 : decode cX4_begins 30 = .ok (.aload_n 0, 1) := dk_42 (dk_at dksX4_begins_1 8 rfl rfl)
theorem dX4_begins_31 : decode cX4_begins 31 = .ok (.getfield 9, 3) := dk_180 0 9 (dk_at dksX4_begins_1 9 rfl rfl)
theorem dX4_begins_34 : decode cX4_begins 34 = .ok (.iconst 0, 1) := dk_3 (dk_at dksX4_begins_1 12 rfl rfl)
theorem dX4_begins_35 : decode cX4_begins 35 = .ok (.bipush 6, 2) := dk_16 6 (dk_at dksX4_begins_1 13 rfl rfl)
theorem dX4_begins_37 : decode cX4_begins 37 = .ok (.invokestatic 65, 3) := dk_184 0 65 (dk_at dksX4_begins_1 15 rfl rfl)
theorem dX4_begins_40 : decode cX4_begins 40 = .ok (.aload_n 1, 1) := dk_43 (dk_at dksX4_begins_1 18 rfl rfl)
theorem dX4_begins_41 : decode cX4_begins 41 = .ok (.getfield 71, 3) := dk_180 0 71 (dk_at dksX4_begins_1 19 rfl rfl)
theorem dX4_begins_44 : decode cX4_begins 44 = .ok (.iconst 0, 1) := dk_3 (dk_at dksX4_begins_1 22 rfl rfl)
theorem dX4_begins_45 : decode cX4_begins 45 = .ok (.aload_n 0, 1) := dk_42 (dk_at dksX4_begins_1 23 rfl rfl)
theorem dX4_begins_46 : decode cX4_begins 46 = .ok (.getfield 15, 3) := dk_180 0 15 (dk_at dksX4_begins_2 0 rfl rfl)
theorem dX4_begins_49 : decode cX4_begins 49 = .ok (.iconst 0, 1) := dk_3 (dk_at dksX4_begins_2 3 rfl rfl)
theorem dX4_begins_50 : decode cX4_begins 50 = .ok (.bipush 7, 2) := dk_16 7 (dk_at dksX4_begins_2 4 rfl rfl)
theorem dX4_begins_52 : decode cX4_begins 52 = .ok (.invokestatic 65, 3) := dk_184 0 65 (dk_at dksX4_begins_2 6 rfl rfl)
theorem dX4_begins_55 : decode cX4_begins 55 = .ok (.aload_n 1, 1) := dk_43 (dk_at dksX4_begins_2 9 rfl rfl)
theorem dX4_begins_56 : decode cX4_begins 56 = .ok (.getfield 72, 3) := dk_180 0 72 (dk_at dksX4_begins_2 10 rfl rfl)
theorem dX4_begins_59 : decode cX4_begins 59 = .ok (.iconst 0, 1) := dk_3 (dk_at dksX4_begins_2 13 rfl rfl)
theorem dX4_begins_60 : decode cX4_begins 60 = .ok (.aload_n 0, 1) := dk_42 (dk_at dksX4_begins_2 14 rfl rfl)
theorem dX4_begins_61 : decode cX4_begins 61 = .ok (.getfield 18, 3) := dk_180 0 18 (dk_at dksX4_begins_2 15 rfl rfl)
theorem dX4_begins_64 : decode cX4_begins 64 = .ok (.iconst 0, 1) := dk_3 (dk_at dksX4_begins_2 18 rfl rfl)
theorem dX4_begins_65 : decode cX4_begins 65 = .ok (.bipush 7, 2) := dk_16 7 (dk_at dksX4_begins_2 19 rfl rfl)
theorem dX4_begins_67 : decode cX4_begins 67 = .ok (.invokestatic 65, 3) := dk_184 0 65 (dk_at dksX4_begins_2 21 rfl rfl)
theorem dX4_begins_70 : decode cX4_begins 70 = .ok (.iconst 0, 1) := dk_3 (dk_at dksX4_begins_3 0 rfl rfl)
theorem dX4_begins_71 : decode cX4_begins 71 = .ok (.istore_n 2, 1) := dk_61 (dk_at dksX4_begins_3 1 rfl rfl)
theorem dX4_begins_72 : decode cX4_begins 72 = .ok (.iload_n 2, 1) := dk_28 (dk_at dksX4_begins_3 2 rfl rfl)
theorem dX4_begins_73 : decode cX4_begins 73 = .ok (.bipush 7, 2) := dk_16 7 (dk_at dksX4_begins_3 3 rfl rfl)
theorem dX4_begins_75 : decode cX4_begins 75 = .ok (.if_icmp .ge 30, 3) := dk_162 0 30 (dk_at dksX4_begins_3 5 rfl rfl)
theorem dX4_begins_78 : decode cX4_begins 78 = .ok (.aload_n 0, 1) := dk_42 (dk_at dksX4_begins_3 8 rfl rfl)
theorem dX4_begins_79 : decode cX4_begins 79 = .ok (.getfield 21, 3) := dk_180 0 21 (dk_at dksX4_begins_3 9 rfl rfl)
theorem dX4_begins_82 : decode cX4_begins 82 = .ok (.iload_n 2, 1) := dk_28 (dk_at dksX4_begins_3 12 rfl rfl)
theorem dX4_begins_83 : decode cX4_begins 83 = .ok (.iconst (-1), 1) := dk_2 (dk_at dksX4_begins_3 13 rfl rfl)
theorem dX4_begins_84 : decode cX4_begins 84 = .ok (.iastore, 1) := dk_79 (dk_at dksX4_begins_3 14 rfl rfl)
theorem dX4_begins_85 : decode cX4_begins 85 = .ok (.aload_n 0, 1) := dk_42 (dk_at dksX4_begins_3 15 rfl rfl)
theorem dX4_begins_86 : decode cX4_begins 86 = .ok (.getfield 24, 3) := dk_180 0 24 (dk_at dksX4_begins_3 16 rfl rfl)
theorem dX4_begins_89 : decode cX4_begins 89 = .ok (.iload_n 2, 1) := dk_28 (dk_at dksX4_begins_3 19 rfl rfl)
theorem dX4_begins_90 : decode cX4_begins 90 = .ok (.iconst 0, 1) := dk_3 (dk_at dksX4_begins_3 20 rfl rfl)
theorem dX4_begins_91 : decode cX4_begins 91 = .ok (.iastore, 1) := dk_79 (dk_at dksX4_begins_3 21 rfl rfl)
theorem dX4_begins_92 : decode cX4_begins 92 = .ok (.aload_n 0, 1) := dk_42 (dk_at dksX4_begins_3 22 rfl rfl)
theorem dX4_begins_93 : decode cX4_begins 93 = .ok (.getfield 27, 3) := dk_180 0 27 (dk_at dksX4_begins_4 0 rfl rfl)
theorem dX4_begins_96 : decode cX4_begins 96 = .ok (.iload_n 2, 1) := dk_28 (dk_at dksX4_begins_4 3 rfl rfl)
theorem dX4_begins_97 : decode cX4_begins 97 = .ok (.iconst (-1), 1) := dk_2 (dk_at dksX4_begins_4 4 rfl rfl)
theorem dX4_begins_98 : decode cX4_begins 98 = .ok (.iastore, 1) := dk_79 (dk_at dksX4_begins_4 5 rfl rfl)
theorem dX4_begins_99 : decode cX4_begins 99 = .ok (.iinc 2 1, 3) := dk_132 2 1 (dk_at dksX4_begins_4 6 rfl rfl)
theorem dX4_begins_102 : decode cX4_begins 102 = .ok (.goto (-30), 3) := dk_167 255 226 (dk_at dksX4_begins_4 9 rfl rfl)
theorem dX4_begins_105 : decode cX4_begins 105 = .ok (.return_, 1) := dk_177 (dk_at dksX4_begins_4 12 rfl rfl)
abbrev cX4_there : ByteArray := prog_17_method_5_code
def yX4_there : MethodName := ⟨RX4, "there", "()I"⟩
def dkwX4_there_0 : List UInt8 := [4, 42, 180, 0, 43, 180, 0, 73, 120, 4, 100, 42, 180, 0, 58, 2, 130, 126, 172]
abbrev dktX4_there_0 : List UInt8 := dkwX4_there_0 ++ []
theorem dksX4_there_0 : cX4_there.data.toList.drop 0 = dktX4_there_0 := by decide +kernel
theorem dX4_there_0 : decode cX4_there 0 = .ok (.iconst 1, 1) := dk_4 (dk_at dksX4_there_0 0 rfl rfl)
theorem dX4_there_1 : decode cX4_there 1 = .ok (.aload_n 0, 1) := dk_42 (dk_at dksX4_there_0 1 rfl rfl)
theorem dX4_there_2 : decode cX4_there 2 = .ok (.getfield 43, 3) := dk_180 0 43 (dk_at dksX4_there_0 2 rfl rfl)
theorem dX4_there_5 : decode cX4_there 5 = .ok (.getfield 73, 3) := dk_180 0 73 (dk_at dksX4_there_0 5 rfl rfl)
theorem dX4_there_8 : decode cX4_there 8 = .ok (.ishl, 1) := dk_120 (dk_at dksX4_there_0 8 rfl rfl)
theorem dX4_there_9 : decode cX4_there 9 = .ok (.iconst 1, 1) := dk_4 (dk_at dksX4_there_0 9 rfl rfl)
theorem dX4_there_10 : decode cX4_there 10 = .ok (.isub, 1) := dk_100 (dk_at dksX4_there_0 10 rfl rfl)
theorem dX4_there_11 : decode cX4_there 11 = .ok (.aload_n 0, 1) := dk_42 (dk_at dksX4_there_0 11 rfl rfl)
theorem dX4_there_12 : decode cX4_there 12 = .ok (.getfield 58, 3) := dk_180 0 58 (dk_at dksX4_there_0 12 rfl rfl)
theorem dX4_there_15 : decode cX4_there 15 = .ok (.iconst (-1), 1) := dk_2 (dk_at dksX4_there_0 15 rfl rfl)
theorem dX4_there_16 : decode cX4_there 16 = .ok (.ixor, 1) := dk_130 (dk_at dksX4_there_0 16 rfl rfl)
theorem dX4_there_17 : decode cX4_there 17 = .ok (.iand, 1) := dk_126 (dk_at dksX4_there_0 17 rfl rfl)
theorem dX4_there_18 : decode cX4_there 18 = .ok (.ireturn, 1) := dk_172 (dk_at dksX4_there_0 18 rfl rfl)
abbrev cX4_as : ByteArray := prog_17_method_3_code
def yX4_as : MethodName := ⟨RX4, "as", "(LGrowingDoor$State;)LGrowingDoor$State;"⟩
def dkwX4_as_5 : List UInt8 := [180, 0, 27, 3, 42, 180, 0, 27, 3, 16, 7, 184, 0, 65, 42, 176]
abbrev dktX4_as_5 : List UInt8 := dkwX4_as_5 ++ []
def dkwX4_as_4 : List UInt8 := [3, 16, 7, 184, 0, 65, 43, 180, 0, 24, 3, 42, 180, 0, 24, 3, 16, 7, 184, 0, 65, 43]
abbrev dktX4_as_4 : List UInt8 := dkwX4_as_4 ++ dktX4_as_5
def dkwX4_as_3 : List UInt8 := [43, 180, 0, 18, 3, 42, 180, 0, 18, 3, 16, 7, 184, 0, 65, 43, 180, 0, 21, 3, 42, 180, 0, 21]
abbrev dktX4_as_3 : List UInt8 := dkwX4_as_3 ++ dktX4_as_4
def dkwX4_as_2 : List UInt8 := [180, 0, 9, 3, 16, 6, 184, 0, 65, 43, 180, 0, 15, 3, 42, 180, 0, 15, 3, 16, 7, 184, 0, 65]
abbrev dktX4_as_2 : List UInt8 := dkwX4_as_2 ++ dktX4_as_3
def dkwX4_as_1 : List UInt8 := [42, 43, 180, 0, 58, 181, 0, 58, 42, 43, 180, 0, 61, 181, 0, 61, 43, 180, 0, 9, 3, 42]
abbrev dktX4_as_1 : List UInt8 := dkwX4_as_1 ++ dktX4_as_2
def dkwX4_as_0 : List UInt8 := [42, 43, 180, 0, 43, 181, 0, 43, 42, 43, 180, 0, 51, 181, 0, 51, 42, 43, 180, 0, 55, 181, 0, 55]
abbrev dktX4_as_0 : List UInt8 := dkwX4_as_0 ++ dktX4_as_1
theorem dksX4_as_0 : cX4_as.data.toList.drop 0 = dktX4_as_0 := by decide +kernel
theorem dksX4_as_1 : cX4_as.data.toList.drop 24 = dktX4_as_1 := dk_seg dksX4_as_0 24 rfl rfl
theorem dksX4_as_2 : cX4_as.data.toList.drop 46 = dktX4_as_2 := dk_seg dksX4_as_1 22 rfl rfl
theorem dksX4_as_3 : cX4_as.data.toList.drop 70 = dktX4_as_3 := dk_seg dksX4_as_2 24 rfl rfl
theorem dksX4_as_4 : cX4_as.data.toList.drop 94 = dktX4_as_4 := dk_seg dksX4_as_3 24 rfl rfl
theorem dksX4_as_5 : cX4_as.data.toList.drop 116 = dktX4_as_5 := dk_seg dksX4_as_4 22 rfl rfl
theorem dX4_as_0 : decode cX4_as 0 = .ok (.aload_n 0, 1) := dk_42 (dk_at dksX4_as_0 0 rfl rfl)
theorem dX4_as_1 : decode cX4_as 1 = .ok (.aload_n 1, 1) := dk_43 (dk_at dksX4_as_0 1 rfl rfl)
theorem dX4_as_2 : decode cX4_as 2 = .ok (.getfield 43, 3) := dk_180 0 43 (dk_at dksX4_as_0 2 rfl rfl)
theorem dX4_as_5 : decode cX4_as 5 = .ok (.putfield 43, 3) := dk_181 0 43 (dk_at dksX4_as_0 5 rfl rfl)
theorem dX4_as_8 : decode cX4_as 8 = .ok (.aload_n 0, 1) := dk_42 (dk_at dksX4_as_0 8 rfl rfl)
theorem dX4_as_9 : decode cX4_as 9 = .ok (.aload_n 1, 1) := dk_43 (dk_at dksX4_as_0 9 rfl rfl)
theorem dX4_as_10 : decode cX4_as 10 = .ok (.getfield 51, 3) := dk_180 0 51 (dk_at dksX4_as_0 10 rfl rfl)
theorem dX4_as_13 : decode cX4_as 13 = .ok (.putfield 51, 3) := dk_181 0 51 (dk_at dksX4_as_0 13 rfl rfl)
theorem dX4_as_16 : decode cX4_as 16 = .ok (.aload_n 0, 1) := dk_42 (dk_at dksX4_as_0 16 rfl rfl)
theorem dX4_as_17 : decode cX4_as 17 = .ok (.aload_n 1, 1) := dk_43 (dk_at dksX4_as_0 17 rfl rfl)
theorem dX4_as_18 : decode cX4_as 18 = .ok (.getfield 55, 3) := dk_180 0 55 (dk_at dksX4_as_0 18 rfl rfl)
theorem dX4_as_21 : decode cX4_as 21 = .ok (.putfield 55, 3) := dk_181 0 55 (dk_at dksX4_as_0 21 rfl rfl)
theorem dX4_as_24 : decode cX4_as 24 = .ok (.aload_n 0, 1) := dk_42 (dk_at dksX4_as_1 0 rfl rfl)
theorem dX4_as_25 : decode cX4_as 25 = .ok (.aload_n 1, 1) := dk_43 (dk_at dksX4_as_1 1 rfl rfl)
theorem dX4_as_26 : decode cX4_as 26 = .ok (.getfield 58, 3) := dk_180 0 58 (dk_at dksX4_as_1 2 rfl rfl)
theorem dX4_as_29 : decode cX4_as 29 = .ok (.putfield 58, 3) := dk_181 0 58 (dk_at dksX4_as_1 5 rfl rfl)
theorem dX4_as_32 : decode cX4_as 32 = .ok (.aload_n 0, 1) := dk_42 (dk_at dksX4_as_1 8 rfl rfl)
theorem dX4_as_33 : decode cX4_as 33 = .ok (.aload_n 1, 1) := dk_43 (dk_at dksX4_as_1 9 rfl rfl)
theorem dX4_as_34 : decode cX4_as 34 = .ok (.getfield 61, 3) := dk_180 0 61 (dk_at dksX4_as_1 10 rfl rfl)
theorem dX4_as_37 : decode cX4_as 37 = .ok (.putfield 61, 3) := dk_181 0 61 (dk_at dksX4_as_1 13 rfl rfl)
theorem dX4_as_40 : decode cX4_as 40 = .ok (.aload_n 1, 1) := dk_43 (dk_at dksX4_as_1 16 rfl rfl)
theorem dX4_as_41 : decode cX4_as 41 = .ok (.getfield 9, 3) := dk_180 0 9 (dk_at dksX4_as_1 17 rfl rfl)
theorem dX4_as_44 : decode cX4_as 44 = .ok (.iconst 0, 1) := dk_3 (dk_at dksX4_as_1 20 rfl rfl)
theorem dX4_as_45 : decode cX4_as 45 = .ok (.aload_n 0, 1) := dk_42 (dk_at dksX4_as_1 21 rfl rfl)
theorem dX4_as_46 : decode cX4_as 46 = .ok (.getfield 9, 3) := dk_180 0 9 (dk_at dksX4_as_2 0 rfl rfl)
theorem dX4_as_49 : decode cX4_as 49 = .ok (.iconst 0, 1) := dk_3 (dk_at dksX4_as_2 3 rfl rfl)
theorem dX4_as_50 : decode cX4_as 50 = .ok (.bipush 6, 2) := dk_16 6 (dk_at dksX4_as_2 4 rfl rfl)
theorem dX4_as_52 : decode cX4_as 52 = .ok (.invokestatic 65, 3) := dk_184 0 65 (dk_at dksX4_as_2 6 rfl rfl)
theorem dX4_as_55 : decode cX4_as 55 = .ok (.aload_n 1, 1) := dk_43 (dk_at dksX4_as_2 9 rfl rfl)
theorem dX4_as_56 : decode cX4_as 56 = .ok (.getfield 15, 3) := dk_180 0 15 (dk_at dksX4_as_2 10 rfl rfl)
theorem dX4_as_59 : decode cX4_as 59 = .ok (.iconst 0, 1) := dk_3 (dk_at dksX4_as_2 13 rfl rfl)
theorem dX4_as_60 : decode cX4_as 60 = .ok (.aload_n 0, 1) := dk_42 (dk_at dksX4_as_2 14 rfl rfl)
theorem dX4_as_61 : decode cX4_as 61 = .ok (.getfield 15, 3) := dk_180 0 15 (dk_at dksX4_as_2 15 rfl rfl)
theorem dX4_as_64 : decode cX4_as 64 = .ok (.iconst 0, 1) := dk_3 (dk_at dksX4_as_2 18 rfl rfl)
theorem dX4_as_65 : decode cX4_as 65 = .ok (.bipush 7, 2) := dk_16 7 (dk_at dksX4_as_2 19 rfl rfl)
theorem dX4_as_67 : decode cX4_as 67 = .ok (.invokestatic 65, 3) := dk_184 0 65 (dk_at dksX4_as_2 21 rfl rfl)
theorem dX4_as_70 : decode cX4_as 70 = .ok (.aload_n 1, 1) := dk_43 (dk_at dksX4_as_3 0 rfl rfl)
theorem dX4_as_71 : decode cX4_as 71 = .ok (.getfield 18, 3) := dk_180 0 18 (dk_at dksX4_as_3 1 rfl rfl)
theorem dX4_as_74 : decode cX4_as 74 = .ok (.iconst 0, 1) := dk_3 (dk_at dksX4_as_3 4 rfl rfl)
theorem dX4_as_75 : decode cX4_as 75 = .ok (.aload_n 0, 1) := dk_42 (dk_at dksX4_as_3 5 rfl rfl)
theorem dX4_as_76 : decode cX4_as 76 = .ok (.getfield 18, 3) := dk_180 0 18 (dk_at dksX4_as_3 6 rfl rfl)
theorem dX4_as_79 : decode cX4_as 79 = .ok (.iconst 0, 1) := dk_3 (dk_at dksX4_as_3 9 rfl rfl)
theorem dX4_as_80 : decode cX4_as 80 = .ok (.bipush 7, 2) := dk_16 7 (dk_at dksX4_as_3 10 rfl rfl)
theorem dX4_as_82 : decode cX4_as 82 = .ok (.invokestatic 65, 3) := dk_184 0 65 (dk_at dksX4_as_3 12 rfl rfl)
theorem dX4_as_85 : decode cX4_as 85 = .ok (.aload_n 1, 1) := dk_43 (dk_at dksX4_as_3 15 rfl rfl)
theorem dX4_as_86 : decode cX4_as 86 = .ok (.getfield 21, 3) := dk_180 0 21 (dk_at dksX4_as_3 16 rfl rfl)
theorem dX4_as_89 : decode cX4_as 89 = .ok (.iconst 0, 1) := dk_3 (dk_at dksX4_as_3 19 rfl rfl)
theorem dX4_as_90 : decode cX4_as 90 = .ok (.aload_n 0, 1) := dk_42 (dk_at dksX4_as_3 20 rfl rfl)
theorem dX4_as_91 : decode cX4_as 91 = .ok (.getfield 21, 3) := dk_180 0 21 (dk_at dksX4_as_3 21 rfl rfl)
theorem dX4_as_94 : decode cX4_as 94 = .ok (.iconst 0, 1) := dk_3 (dk_at dksX4_as_4 0 rfl rfl)
theorem dX4_as_95 : decode cX4_as 95 = .ok (.bipush 7, 2) := dk_16 7 (dk_at dksX4_as_4 1 rfl rfl)
theorem dX4_as_97 : decode cX4_as 97 = .ok (.invokestatic 65, 3) := dk_184 0 65 (dk_at dksX4_as_4 3 rfl rfl)
theorem dX4_as_100 : decode cX4_as 100 = .ok (.aload_n 1, 1) := dk_43 (dk_at dksX4_as_4 6 rfl rfl)
theorem dX4_as_101 : decode cX4_as 101 = .ok (.getfield 24, 3) := dk_180 0 24 (dk_at dksX4_as_4 7 rfl rfl)
theorem dX4_as_104 : decode cX4_as 104 = .ok (.iconst 0, 1) := dk_3 (dk_at dksX4_as_4 10 rfl rfl)
theorem dX4_as_105 : decode cX4_as 105 = .ok (.aload_n 0, 1) := dk_42 (dk_at dksX4_as_4 11 rfl rfl)
theorem dX4_as_106 : decode cX4_as 106 = .ok (.getfield 24, 3) := dk_180 0 24 (dk_at dksX4_as_4 12 rfl rfl)
theorem dX4_as_109 : decode cX4_as 109 = .ok (.iconst 0, 1) := dk_3 (dk_at dksX4_as_4 15 rfl rfl)
theorem dX4_as_110 : decode cX4_as 110 = .ok (.bipush 7, 2) := dk_16 7 (dk_at dksX4_as_4 16 rfl rfl)
theorem dX4_as_112 : decode cX4_as 112 = .ok (.invokestatic 65, 3) := dk_184 0 65 (dk_at dksX4_as_4 18 rfl rfl)
theorem dX4_as_115 : decode cX4_as 115 = .ok (.aload_n 1, 1) := dk_43 (dk_at dksX4_as_4 21 rfl rfl)
theorem dX4_as_116 : decode cX4_as 116 = .ok (.getfield 27, 3) := dk_180 0 27 (dk_at dksX4_as_5 0 rfl rfl)
theorem dX4_as_119 : decode cX4_as 119 = .ok (.iconst 0, 1) := dk_3 (dk_at dksX4_as_5 3 rfl rfl)
theorem dX4_as_120 : decode cX4_as 120 = .ok (.aload_n 0, 1) := dk_42 (dk_at dksX4_as_5 4 rfl rfl)
theorem dX4_as_121 : decode cX4_as 121 = .ok (.getfield 27, 3) := dk_180 0 27 (dk_at dksX4_as_5 5 rfl rfl)
theorem dX4_as_124 : decode cX4_as 124 = .ok (.iconst 0, 1) := dk_3 (dk_at dksX4_as_5 8 rfl rfl)
theorem dX4_as_125 : decode cX4_as 125 = .ok (.bipush 7, 2) := dk_16 7 (dk_at dksX4_as_5 9 rfl rfl)
theorem dX4_as_127 : decode cX4_as 127 = .ok (.invokestatic 65, 3) := dk_184 0 65 (dk_at dksX4_as_5 11 rfl rfl)
theorem dX4_as_130 : decode cX4_as 130 = .ok (.aload_n 0, 1) := dk_42 (dk_at dksX4_as_5 14 rfl rfl)
theorem dX4_as_131 : decode cX4_as 131 = .ok (.areturn, 1) := dk_176 (dk_at dksX4_as_5 15 rfl rfl)
abbrev cX4_passes : ByteArray := prog_17_method_19_code
def yX4_passes : MethodName := ⟨RX4, "passes", "()Z"⟩
def dkwX4_passes_0 : List UInt8 := [42, 180, 0, 51, 17, 1, 144, 161, 0, 5, 3, 172, 42, 182, 0, 141, 4, 172]
abbrev dktX4_passes_0 : List UInt8 := dkwX4_passes_0 ++ []
theorem dksX4_passes_0 : cX4_passes.data.toList.drop 0 = dktX4_passes_0 := by decide +kernel
theorem dX4_passes_0 : decode cX4_passes 0 = .ok (.aload_n 0, 1) := dk_42 (dk_at dksX4_passes_0 0 rfl rfl)
theorem dX4_passes_1 : decode cX4_passes 1 = .ok (.getfield 51, 3) := dk_180 0 51 (dk_at dksX4_passes_0 1 rfl rfl)
theorem dX4_passes_4 : decode cX4_passes 4 = .ok (.sipush 400, 3) := dk_17 1 144 (dk_at dksX4_passes_0 4 rfl rfl)
theorem dX4_passes_7 : decode cX4_passes 7 = .ok (.if_icmp .lt 5, 3) := dk_161 0 5 (dk_at dksX4_passes_0 7 rfl rfl)
theorem dX4_passes_10 : decode cX4_passes 10 = .ok (.iconst 0, 1) := dk_3 (dk_at dksX4_passes_0 10 rfl rfl)
theorem dX4_passes_11 : decode cX4_passes 11 = .ok (.ireturn, 1) := dk_172 (dk_at dksX4_passes_0 11 rfl rfl)
theorem dX4_passes_12 : decode cX4_passes 12 = .ok (.aload_n 0, 1) := dk_42 (dk_at dksX4_passes_0 12 rfl rfl)
theorem dX4_passes_13 : decode cX4_passes 13 = .ok (.invokevirtual 141, 3) := dk_182 0 141 (dk_at dksX4_passes_0 13 rfl rfl)
theorem dX4_passes_16 : decode cX4_passes 16 = .ok (.iconst 1, 1) := dk_4 (dk_at dksX4_passes_0 16 rfl rfl)
theorem dX4_passes_17 : decode cX4_passes 17 = .ok (.ireturn, 1) := dk_172 (dk_at dksX4_passes_0 17 rfl rfl)
abbrev cX4_monthEnds : ByteArray := prog_17_method_20_code
def yX4_monthEnds : MethodName := ⟨RX4, "monthEnds", "()V"⟩
def dkwX4_monthEnds_4 : List UInt8 := [27, 182, 0, 146, 96, 79, 132, 1, 1, 167, 255, 228, 42, 89, 180, 0, 51, 4, 96, 181, 0, 51, 177]
abbrev dktX4_monthEnds_4 : List UInt8 := dkwX4_monthEnds_4 ++ []
def dkwX4_monthEnds_3 : List UInt8 := [167, 255, 217, 3, 60, 27, 42, 180, 0, 43, 180, 0, 76, 162, 0, 23, 42, 180, 0, 9, 27, 92, 46, 42]
abbrev dktX4_monthEnds_3 : List UInt8 := dkwX4_monthEnds_3 ++ dktX4_monthEnds_4
def dkwX4_monthEnds_2 : List UInt8 := [17, 3, 231, 42, 180, 0, 15, 27, 46, 42, 180, 0, 30, 27, 46, 96, 184, 0, 131, 79, 132, 1, 1]
abbrev dktX4_monthEnds_2 : List UInt8 := dkwX4_monthEnds_2 ++ dktX4_monthEnds_3
def dkwX4_monthEnds_1 : List UInt8 := [132, 1, 1, 167, 255, 231, 3, 60, 27, 42, 180, 0, 43, 180, 0, 73, 162, 0, 34, 42, 180, 0, 15, 27]
abbrev dktX4_monthEnds_1 : List UInt8 := dkwX4_monthEnds_1 ++ dktX4_monthEnds_2
def dkwX4_monthEnds_0 : List UInt8 := [3, 60, 27, 42, 180, 0, 43, 180, 0, 73, 162, 0, 20, 42, 180, 0, 30, 27, 42, 27, 182, 0, 144, 79]
abbrev dktX4_monthEnds_0 : List UInt8 := dkwX4_monthEnds_0 ++ dktX4_monthEnds_1
theorem dksX4_monthEnds_0 : cX4_monthEnds.data.toList.drop 0 = dktX4_monthEnds_0 := by decide +kernel
theorem dksX4_monthEnds_1 : cX4_monthEnds.data.toList.drop 24 = dktX4_monthEnds_1 := dk_seg dksX4_monthEnds_0 24 rfl rfl
theorem dksX4_monthEnds_2 : cX4_monthEnds.data.toList.drop 48 = dktX4_monthEnds_2 := dk_seg dksX4_monthEnds_1 24 rfl rfl
theorem dksX4_monthEnds_3 : cX4_monthEnds.data.toList.drop 71 = dktX4_monthEnds_3 := dk_seg dksX4_monthEnds_2 23 rfl rfl
theorem dksX4_monthEnds_4 : cX4_monthEnds.data.toList.drop 95 = dktX4_monthEnds_4 := dk_seg dksX4_monthEnds_3 24 rfl rfl
theorem dX4_monthEnds_0 : decode cX4_monthEnds 0 = .ok (.iconst 0, 1) := dk_3 (dk_at dksX4_monthEnds_0 0 rfl rfl)
theorem dX4_monthEnds_1 : decode cX4_monthEnds 1 = .ok (.istore_n 1, 1) := dk_60 (dk_at dksX4_monthEnds_0 1 rfl rfl)
theorem dX4_monthEnds_2 : decode cX4_monthEnds 2 = .ok (.iload_n 1, 1) := dk_27 (dk_at dksX4_monthEnds_0 2 rfl rfl)
theorem dX4_monthEnds_3 : decode cX4_monthEnds 3 = .ok (.aload_n 0, 1) := dk_42 (dk_at dksX4_monthEnds_0 3 rfl rfl)
theorem dX4_monthEnds_4 : decode cX4_monthEnds 4 = .ok (.getfield 43, 3) := dk_180 0 43 (dk_at dksX4_monthEnds_0 4 rfl rfl)
theorem dX4_monthEnds_7 : decode cX4_monthEnds 7 = .ok (.getfield 73, 3) := dk_180 0 73 (dk_at dksX4_monthEnds_0 7 rfl rfl)
theorem dX4_monthEnds_10 : decode cX4_monthEnds 10 = .ok (.if_icmp .ge 20, 3) := dk_162 0 20 (dk_at dksX4_monthEnds_0 10 rfl rfl)
theorem dX4_monthEnds_13 : decode cX4_monthEnds 13 = .ok (.aload_n 0, 1) := dk_42 (dk_at dksX4_monthEnds_0 13 rfl rfl)
theorem dX4_monthEnds_14 : decode cX4_monthEnds 14 = .ok (.getfield 30, 3) := dk_180 0 30 (dk_at dksX4_monthEnds_0 14 rfl rfl)
theorem dX4_monthEnds_17 : decode cX4_monthEnds 17 = .ok (.iload_n 1, 1) := dk_27 (dk_at dksX4_monthEnds_0 17 rfl rfl)
theorem dX4_monthEnds_18 : decode cX4_monthEnds 18 = .ok (.aload_n 0, 1) := dk_42 (dk_at dksX4_monthEnds_0 18 rfl rfl)
theorem dX4_monthEnds_19 : decode cX4_monthEnds 19 = .ok (.iload_n 1, 1) := dk_27 (dk_at dksX4_monthEnds_0 19 rfl rfl)
theorem dX4_monthEnds_20 : decode cX4_monthEnds 20 = .ok (.invokevirtual 144, 3) := dk_182 0 144 (dk_at dksX4_monthEnds_0 20 rfl rfl)
theorem dX4_monthEnds_23 : decode cX4_monthEnds 23 = .ok (.iastore, 1) := dk_79 (dk_at dksX4_monthEnds_0 23 rfl rfl)
theorem dX4_monthEnds_24 : decode cX4_monthEnds 24 = .ok (.iinc 1 1, 3) := dk_132 1 1 (dk_at dksX4_monthEnds_1 0 rfl rfl)
theorem dX4_monthEnds_27 : decode cX4_monthEnds 27 = .ok (.goto (-25), 3) := dk_167 255 231 (dk_at dksX4_monthEnds_1 3 rfl rfl)
theorem dX4_monthEnds_30 : decode cX4_monthEnds 30 = .ok (.iconst 0, 1) := dk_3 (dk_at dksX4_monthEnds_1 6 rfl rfl)
theorem dX4_monthEnds_31 : decode cX4_monthEnds 31 = .ok (.istore_n 1, 1) := dk_60 (dk_at dksX4_monthEnds_1 7 rfl rfl)
theorem dX4_monthEnds_32 : decode cX4_monthEnds 32 = .ok (.iload_n 1, 1) := dk_27 (dk_at dksX4_monthEnds_1 8 rfl rfl)
theorem dX4_monthEnds_33 : decode cX4_monthEnds 33 = .ok (.aload_n 0, 1) := dk_42 (dk_at dksX4_monthEnds_1 9 rfl rfl)
theorem dX4_monthEnds_34 : decode cX4_monthEnds 34 = .ok (.getfield 43, 3) := dk_180 0 43 (dk_at dksX4_monthEnds_1 10 rfl rfl)
theorem dX4_monthEnds_37 : decode cX4_monthEnds 37 = .ok (.getfield 73, 3) := dk_180 0 73 (dk_at dksX4_monthEnds_1 13 rfl rfl)
theorem dX4_monthEnds_40 : decode cX4_monthEnds 40 = .ok (.if_icmp .ge 34, 3) := dk_162 0 34 (dk_at dksX4_monthEnds_1 16 rfl rfl)
theorem dX4_monthEnds_43 : decode cX4_monthEnds 43 = .ok (.aload_n 0, 1) := dk_42 (dk_at dksX4_monthEnds_1 19 rfl rfl)
theorem dX4_monthEnds_44 : decode cX4_monthEnds 44 = .ok (.getfield 15, 3) := dk_180 0 15 (dk_at dksX4_monthEnds_1 20 rfl rfl)
theorem dX4_monthEnds_47 : decode cX4_monthEnds 47 = .ok (.iload_n 1, 1) := dk_27 (dk_at dksX4_monthEnds_1 23 rfl rfl)
theorem dX4_monthEnds_48 : decode cX4_monthEnds 48 = .ok (.sipush 999, 3) := dk_17 3 231 (dk_at dksX4_monthEnds_2 0 rfl rfl)
theorem dX4_monthEnds_51 : decode cX4_monthEnds 51 = .ok (.aload_n 0, 1) := dk_42 (dk_at dksX4_monthEnds_2 3 rfl rfl)
theorem dX4_monthEnds_52 : decode cX4_monthEnds 52 = .ok (.getfield 15, 3) := dk_180 0 15 (dk_at dksX4_monthEnds_2 4 rfl rfl)
theorem dX4_monthEnds_55 : decode cX4_monthEnds 55 = .ok (.iload_n 1, 1) := dk_27 (dk_at dksX4_monthEnds_2 7 rfl rfl)
theorem dX4_monthEnds_56 : decode cX4_monthEnds 56 = .ok (.iaload, 1) := dk_46 (dk_at dksX4_monthEnds_2 8 rfl rfl)
theorem dX4_monthEnds_57 : decode cX4_monthEnds 57 = .ok (.aload_n 0, 1) := dk_42 (dk_at dksX4_monthEnds_2 9 rfl rfl)
theorem dX4_monthEnds_58 : decode cX4_monthEnds 58 = .ok (.getfield 30, 3) := dk_180 0 30 (dk_at dksX4_monthEnds_2 10 rfl rfl)
theorem dX4_monthEnds_61 : decode cX4_monthEnds 61 = .ok (.iload_n 1, 1) := dk_27 (dk_at dksX4_monthEnds_2 13 rfl rfl)
theorem dX4_monthEnds_62 : decode cX4_monthEnds 62 = .ok (.iaload, 1) := dk_46 (dk_at dksX4_monthEnds_2 14 rfl rfl)
theorem dX4_monthEnds_63 : decode cX4_monthEnds 63 = .ok (.iadd, 1) := dk_96 (dk_at dksX4_monthEnds_2 15 rfl rfl)
theorem dX4_monthEnds_64 : decode cX4_monthEnds 64 = .ok (.invokestatic 131, 3) := dk_184 0 131 (dk_at dksX4_monthEnds_2 16 rfl rfl)
theorem dX4_monthEnds_67 : decode cX4_monthEnds 67 = .ok (.iastore, 1) := dk_79 (dk_at dksX4_monthEnds_2 19 rfl rfl)
theorem dX4_monthEnds_68 : decode cX4_monthEnds 68 = .ok (.iinc 1 1, 3) := dk_132 1 1 (dk_at dksX4_monthEnds_2 20 rfl rfl)
theorem dX4_monthEnds_71 : decode cX4_monthEnds 71 = .ok (.goto (-39), 3) := dk_167 255 217 (dk_at dksX4_monthEnds_3 0 rfl rfl)
theorem dX4_monthEnds_74 : decode cX4_monthEnds 74 = .ok (.iconst 0, 1) := dk_3 (dk_at dksX4_monthEnds_3 3 rfl rfl)
theorem dX4_monthEnds_75 : decode cX4_monthEnds 75 = .ok (.istore_n 1, 1) := dk_60 (dk_at dksX4_monthEnds_3 4 rfl rfl)
theorem dX4_monthEnds_76 : decode cX4_monthEnds 76 = .ok (.iload_n 1, 1) := dk_27 (dk_at dksX4_monthEnds_3 5 rfl rfl)
theorem dX4_monthEnds_77 : decode cX4_monthEnds 77 = .ok (.aload_n 0, 1) := dk_42 (dk_at dksX4_monthEnds_3 6 rfl rfl)
theorem dX4_monthEnds_78 : decode cX4_monthEnds 78 = .ok (.getfield 43, 3) := dk_180 0 43 (dk_at dksX4_monthEnds_3 7 rfl rfl)
theorem dX4_monthEnds_81 : decode cX4_monthEnds 81 = .ok (.getfield 76, 3) := dk_180 0 76 (dk_at dksX4_monthEnds_3 10 rfl rfl)
theorem dX4_monthEnds_84 : decode cX4_monthEnds 84 = .ok (.if_icmp .ge 23, 3) := dk_162 0 23 (dk_at dksX4_monthEnds_3 13 rfl rfl)
theorem dX4_monthEnds_87 : decode cX4_monthEnds 87 = .ok (.aload_n 0, 1) := dk_42 (dk_at dksX4_monthEnds_3 16 rfl rfl)
theorem dX4_monthEnds_88 : decode cX4_monthEnds 88 = .ok (.getfield 9, 3) := dk_180 0 9 (dk_at dksX4_monthEnds_3 17 rfl rfl)
theorem dX4_monthEnds_91 : decode cX4_monthEnds 91 = .ok (.iload_n 1, 1) := dk_27 (dk_at dksX4_monthEnds_3 20 rfl rfl)
theorem dX4_monthEnds_92 : decode cX4_monthEnds 92 = .ok (.dup2, 1) := dk_92 (dk_at dksX4_monthEnds_3 21 rfl rfl)
theorem dX4_monthEnds_93 : decode cX4_monthEnds 93 = .ok (.iaload, 1) := dk_46 (dk_at dksX4_monthEnds_3 22 rfl rfl)
theorem dX4_monthEnds_94 : decode cX4_monthEnds 94 = .ok (.aload_n 0, 1) := dk_42 (dk_at dksX4_monthEnds_3 23 rfl rfl)
theorem dX4_monthEnds_95 : decode cX4_monthEnds 95 = .ok (.iload_n 1, 1) := dk_27 (dk_at dksX4_monthEnds_4 0 rfl rfl)
theorem dX4_monthEnds_96 : decode cX4_monthEnds 96 = .ok (.invokevirtual 146, 3) := dk_182 0 146 (dk_at dksX4_monthEnds_4 1 rfl rfl)
theorem dX4_monthEnds_99 : decode cX4_monthEnds 99 = .ok (.iadd, 1) := dk_96 (dk_at dksX4_monthEnds_4 4 rfl rfl)
theorem dX4_monthEnds_100 : decode cX4_monthEnds 100 = .ok (.iastore, 1) := dk_79 (dk_at dksX4_monthEnds_4 5 rfl rfl)
theorem dX4_monthEnds_101 : decode cX4_monthEnds 101 = .ok (.iinc 1 1, 3) := dk_132 1 1 (dk_at dksX4_monthEnds_4 6 rfl rfl)
theorem dX4_monthEnds_104 : decode cX4_monthEnds 104 = .ok (.goto (-28), 3) := dk_167 255 228 (dk_at dksX4_monthEnds_4 9 rfl rfl)
theorem dX4_monthEnds_107 : decode cX4_monthEnds 107 = .ok (.aload_n 0, 1) := dk_42 (dk_at dksX4_monthEnds_4 12 rfl rfl)
theorem dX4_monthEnds_108 : decode cX4_monthEnds 108 = .ok (.dup, 1) := dk_89 (dk_at dksX4_monthEnds_4 13 rfl rfl)
theorem dX4_monthEnds_109 : decode cX4_monthEnds 109 = .ok (.getfield 51, 3) := dk_180 0 51 (dk_at dksX4_monthEnds_4 14 rfl rfl)
theorem dX4_monthEnds_112 : decode cX4_monthEnds 112 = .ok (.iconst 1, 1) := dk_4 (dk_at dksX4_monthEnds_4 17 rfl rfl)
theorem dX4_monthEnds_113 : decode cX4_monthEnds 113 = .ok (.iadd, 1) := dk_96 (dk_at dksX4_monthEnds_4 18 rfl rfl)
theorem dX4_monthEnds_114 : decode cX4_monthEnds 114 = .ok (.putfield 51, 3) := dk_181 0 51 (dk_at dksX4_monthEnds_4 19 rfl rfl)
theorem dX4_monthEnds_117 : decode cX4_monthEnds 117 = .ok (.return_, 1) := dk_177 (dk_at dksX4_monthEnds_4 22 rfl rfl)
abbrev cX4_grows : ByteArray := prog_17_method_12_code
def yX4_grows : MethodName := ⟨RX4, "grows", "(I)I"⟩
def dkwX4_grows_6 : List UInt8 := [27, 181, 0, 114, 42, 180, 0, 47, 42, 180, 0, 36, 182, 0, 117, 172]
abbrev dktX4_grows_6 : List UInt8 := dkwX4_grows_6 ++ []
def dkwX4_grows_5 : List UInt8 := [180, 0, 51, 16, 12, 112, 181, 0, 108, 42, 180, 0, 36, 42, 182, 0, 109, 181, 0, 112, 42, 180, 0, 36]
abbrev dktX4_grows_5 : List UInt8 := dkwX4_grows_5 ++ dktX4_grows_6
def dkwX4_grows_4 : List UInt8 := [42, 182, 0, 98, 181, 0, 101, 42, 180, 0, 36, 42, 27, 182, 0, 103, 181, 0, 106, 42, 180, 0, 36, 42]
abbrev dktX4_grows_4 : List UInt8 := dkwX4_grows_4 ++ dktX4_grows_5
def dkwX4_grows_3 : List UInt8 := [180, 0, 36, 42, 180, 0, 15, 27, 46, 181, 0, 94, 42, 180, 0, 36, 28, 181, 0, 96, 42, 180, 0, 36]
abbrev dktX4_grows_3 : List UInt8 := dkwX4_grows_3 ++ dktX4_grows_4
def dkwX4_grows_2 : List UInt8 := [132, 2, 1, 132, 3, 1, 167, 255, 207, 42, 180, 0, 36, 42, 180, 0, 18, 27, 46, 181, 0, 92, 42]
abbrev dktX4_grows_2 : List UInt8 := dkwX4_grows_2 ++ dktX4_grows_3
def dkwX4_grows_1 : List UInt8 := [29, 122, 4, 126, 4, 160, 0, 21, 42, 180, 0, 15, 29, 46, 42, 180, 0, 15, 27, 46, 164, 0, 6]
abbrev dktX4_grows_1 : List UInt8 := dkwX4_grows_1 ++ dktX4_grows_2
def dkwX4_grows_0 : List UInt8 := [3, 61, 3, 62, 29, 42, 180, 0, 43, 180, 0, 73, 162, 0, 44, 42, 180, 0, 43, 180, 0, 89, 27, 46]
abbrev dktX4_grows_0 : List UInt8 := dkwX4_grows_0 ++ dktX4_grows_1
theorem dksX4_grows_0 : cX4_grows.data.toList.drop 0 = dktX4_grows_0 := by decide +kernel
theorem dksX4_grows_1 : cX4_grows.data.toList.drop 24 = dktX4_grows_1 := dk_seg dksX4_grows_0 24 rfl rfl
theorem dksX4_grows_2 : cX4_grows.data.toList.drop 47 = dktX4_grows_2 := dk_seg dksX4_grows_1 23 rfl rfl
theorem dksX4_grows_3 : cX4_grows.data.toList.drop 70 = dktX4_grows_3 := dk_seg dksX4_grows_2 23 rfl rfl
theorem dksX4_grows_4 : cX4_grows.data.toList.drop 94 = dktX4_grows_4 := dk_seg dksX4_grows_3 24 rfl rfl
theorem dksX4_grows_5 : cX4_grows.data.toList.drop 118 = dktX4_grows_5 := dk_seg dksX4_grows_4 24 rfl rfl
theorem dksX4_grows_6 : cX4_grows.data.toList.drop 142 = dktX4_grows_6 := dk_seg dksX4_grows_5 24 rfl rfl
theorem dX4_grows_0 : decode cX4_grows 0 = .ok (.iconst 0, 1) := dk_3 (dk_at dksX4_grows_0 0 rfl rfl)
theorem dX4_grows_1 : decode cX4_grows 1 = .ok (.istore_n 2, 1) := dk_61 (dk_at dksX4_grows_0 1 rfl rfl)
theorem dX4_grows_2 : decode cX4_grows 2 = .ok (.iconst 0, 1) := dk_3 (dk_at dksX4_grows_0 2 rfl rfl)
theorem dX4_grows_3 : decode cX4_grows 3 = .ok (.istore_n 3, 1) := dk_62 (dk_at dksX4_grows_0 3 rfl rfl)
theorem dX4_grows_4 : decode cX4_grows 4 = .ok (.iload_n 3, 1) := dk_29 (dk_at dksX4_grows_0 4 rfl rfl)
theorem dX4_grows_5 : decode cX4_grows 5 = .ok (.aload_n 0, 1) := dk_42 (dk_at dksX4_grows_0 5 rfl rfl)
theorem dX4_grows_6 : decode cX4_grows 6 = .ok (.getfield 43, 3) := dk_180 0 43 (dk_at dksX4_grows_0 6 rfl rfl)
theorem dX4_grows_9 : decode cX4_grows 9 = .ok (.getfield 73, 3) := dk_180 0 73 (dk_at dksX4_grows_0 9 rfl rfl)
theorem dX4_grows_12 : decode cX4_grows 12 = .ok (.if_icmp .ge 44, 3) := dk_162 0 44 (dk_at dksX4_grows_0 12 rfl rfl)
theorem dX4_grows_15 : decode cX4_grows 15 = .ok (.aload_n 0, 1) := dk_42 (dk_at dksX4_grows_0 15 rfl rfl)
theorem dX4_grows_16 : decode cX4_grows 16 = .ok (.getfield 43, 3) := dk_180 0 43 (dk_at dksX4_grows_0 16 rfl rfl)
theorem dX4_grows_19 : decode cX4_grows 19 = .ok (.getfield 89, 3) := dk_180 0 89 (dk_at dksX4_grows_0 19 rfl rfl)
theorem dX4_grows_22 : decode cX4_grows 22 = .ok (.iload_n 1, 1) := dk_27 (dk_at dksX4_grows_0 22 rfl rfl)
theorem dX4_grows_23 : decode cX4_grows 23 = .ok (.iaload, 1) := dk_46 (dk_at dksX4_grows_0 23 rfl rfl)
theorem dX4_grows_24 : decode cX4_grows 24 = .ok (.iload_n 3, 1) := dk_29 (dk_at dksX4_grows_1 0 rfl rfl)
theorem dX4_grows_25 : decode cX4_grows 25 = .ok (.ishr, 1) := dk_122 (dk_at dksX4_grows_1 1 rfl rfl)
theorem dX4_grows_26 : decode cX4_grows 26 = .ok (.iconst 1, 1) := dk_4 (dk_at dksX4_grows_1 2 rfl rfl)
theorem dX4_grows_27 : decode cX4_grows 27 = .ok (.iand, 1) := dk_126 (dk_at dksX4_grows_1 3 rfl rfl)
theorem dX4_grows_28 : decode cX4_grows 28 = .ok (.iconst 1, 1) := dk_4 (dk_at dksX4_grows_1 4 rfl rfl)
theorem dX4_grows_29 : decode cX4_grows 29 = .ok (.if_icmp .ne 21, 3) := dk_160 0 21 (dk_at dksX4_grows_1 5 rfl rfl)
theorem dX4_grows_32 : decode cX4_grows 32 = .ok (.aload_n 0, 1) := dk_42 (dk_at dksX4_grows_1 8 rfl rfl)
theorem dX4_grows_33 : decode cX4_grows 33 = .ok (.getfield 15, 3) := dk_180 0 15 (dk_at dksX4_grows_1 9 rfl rfl)
theorem dX4_grows_36 : decode cX4_grows 36 = .ok (.iload_n 3, 1) := dk_29 (dk_at dksX4_grows_1 12 rfl rfl)
theorem dX4_grows_37 : decode cX4_grows 37 = .ok (.iaload, 1) := dk_46 (dk_at dksX4_grows_1 13 rfl rfl)
theorem dX4_grows_38 : decode cX4_grows 38 = .ok (.aload_n 0, 1) := dk_42 (dk_at dksX4_grows_1 14 rfl rfl)
theorem dX4_grows_39 : decode cX4_grows 39 = .ok (.getfield 15, 3) := dk_180 0 15 (dk_at dksX4_grows_1 15 rfl rfl)
theorem dX4_grows_42 : decode cX4_grows 42 = .ok (.iload_n 1, 1) := dk_27 (dk_at dksX4_grows_1 18 rfl rfl)
theorem dX4_grows_43 : decode cX4_grows 43 = .ok (.iaload, 1) := dk_46 (dk_at dksX4_grows_1 19 rfl rfl)
theorem dX4_grows_44 : decode cX4_grows 44 = .ok (.if_icmp .le 6, 3) := dk_164 0 6 (dk_at dksX4_grows_1 20 rfl rfl)
theorem dX4_grows_47 : decode cX4_grows 47 = .ok (.iinc 2 1, 3) := dk_132 2 1 (dk_at dksX4_grows_2 0 rfl rfl)
theorem dX4_grows_50 : decode cX4_grows 50 = .ok (.iinc 3 1, 3) := dk_132 3 1 (dk_at dksX4_grows_2 3 rfl rfl)
theorem dX4_grows_53 : decode cX4_grows 53 = .ok (.goto (-49), 3) := dk_167 255 207 (dk_at dksX4_grows_2 6 rfl rfl)
theorem dX4_grows_56 : decode cX4_grows 56 = .ok (.aload_n 0, 1) := dk_42 (dk_at dksX4_grows_2 9 rfl rfl)
theorem dX4_grows_57 : decode cX4_grows 57 = .ok (.getfield 36, 3) := dk_180 0 36 (dk_at dksX4_grows_2 10 rfl rfl)
theorem dX4_grows_60 : decode cX4_grows 60 = .ok (.aload_n 0, 1) := dk_42 (dk_at dksX4_grows_2 13 rfl rfl)
theorem dX4_grows_61 : decode cX4_grows 61 = .ok (.getfield 18, 3) := dk_180 0 18 (dk_at dksX4_grows_2 14 rfl rfl)
theorem dX4_grows_64 : decode cX4_grows 64 = .ok (.iload_n 1, 1) := dk_27 (dk_at dksX4_grows_2 17 rfl rfl)
theorem dX4_grows_65 : decode cX4_grows 65 = .ok (.iaload, 1) := dk_46 (dk_at dksX4_grows_2 18 rfl rfl)
theorem dX4_grows_66 : decode cX4_grows 66 = .ok (.putfield 92, 3) := dk_181 0 92 (dk_at dksX4_grows_2 19 rfl rfl)
theorem dX4_grows_69 : decode cX4_grows 69 = .ok (.aload_n 0, 1) := dk_42 (dk_at dksX4_grows_2 22 rfl rfl)
theorem dX4_grows_70 : decode cX4_grows 70 = .ok (.getfield 36, 3) := dk_180 0 36 (dk_at dksX4_grows_3 0 rfl rfl)
theorem dX4_grows_73 : decode cX4_grows 73 = .ok (.aload_n 0, 1) := dk_42 (dk_at dksX4_grows_3 3 rfl rfl)
theorem dX4_grows_74 : decode cX4_grows 74 = .ok (.getfield 15, 3) := dk_180 0 15 (dk_at dksX4_grows_3 4 rfl rfl)
theorem dX4_grows_77 : decode cX4_grows 77 = .ok (.iload_n 1, 1) := dk_27 (dk_at dksX4_grows_3 7 rfl rfl)
theorem dX4_grows_78 : decode cX4_grows 78 = .ok (.iaload, 1) := dk_46 (dk_at dksX4_grows_3 8 rfl rfl)
theorem dX4_grows_79 : decode cX4_grows 79 = .ok (.putfield 94, 3) := dk_181 0 94 (dk_at dksX4_grows_3 9 rfl rfl)
theorem dX4_grows_82 : decode cX4_grows 82 = .ok (.aload_n 0, 1) := dk_42 (dk_at dksX4_grows_3 12 rfl rfl)
theorem dX4_grows_83 : decode cX4_grows 83 = .ok (.getfield 36, 3) := dk_180 0 36 (dk_at dksX4_grows_3 13 rfl rfl)
theorem dX4_grows_86 : decode cX4_grows 86 = .ok (.iload_n 2, 1) := dk_28 (dk_at dksX4_grows_3 16 rfl rfl)
theorem dX4_grows_87 : decode cX4_grows 87 = .ok (.putfield 96, 3) := dk_181 0 96 (dk_at dksX4_grows_3 17 rfl rfl)
theorem dX4_grows_90 : decode cX4_grows 90 = .ok (.aload_n 0, 1) := dk_42 (dk_at dksX4_grows_3 20 rfl rfl)
theorem dX4_grows_91 : decode cX4_grows 91 = .ok (.getfield 36, 3) := dk_180 0 36 (dk_at dksX4_grows_3 21 rfl rfl)
theorem dX4_grows_94 : decode cX4_grows 94 = .ok (.aload_n 0, 1) := dk_42 (dk_at dksX4_grows_4 0 rfl rfl)
theorem dX4_grows_95 : decode cX4_grows 95 = .ok (.invokevirtual 98, 3) := dk_182 0 98 (dk_at dksX4_grows_4 1 rfl rfl)
theorem dX4_grows_98 : decode cX4_grows 98 = .ok (.putfield 101, 3) := dk_181 0 101 (dk_at dksX4_grows_4 4 rfl rfl)
theorem dX4_grows_101 : decode cX4_grows 101 = .ok (.aload_n 0, 1) := dk_42 (dk_at dksX4_grows_4 7 rfl rfl)
theorem dX4_grows_102 : decode cX4_grows 102 = .ok (.getfield 36, 3) := dk_180 0 36 (dk_at dksX4_grows_4 8 rfl rfl)
theorem dX4_grows_105 : decode cX4_grows 105 = .ok (.aload_n 0, 1) := dk_42 (dk_at dksX4_grows_4 11 rfl rfl)
theorem dX4_grows_106 : decode cX4_grows 106 = .ok (.iload_n 1, 1) := dk_27 (dk_at dksX4_grows_4 12 rfl rfl)
theorem dX4_grows_107 : decode cX4_grows 107 = .ok (.invokevirtual 103, 3) := dk_182 0 103 (dk_at dksX4_grows_4 13 rfl rfl)
theorem dX4_grows_110 : decode cX4_grows 110 = .ok (.putfield 106, 3) := dk_181 0 106 (dk_at dksX4_grows_4 16 rfl rfl)
theorem dX4_grows_113 : decode cX4_grows 113 = .ok (.aload_n 0, 1) := dk_42 (dk_at dksX4_grows_4 19 rfl rfl)
theorem dX4_grows_114 : decode cX4_grows 114 = .ok (.getfield 36, 3) := dk_180 0 36 (dk_at dksX4_grows_4 20 rfl rfl)
theorem dX4_grows_117 : decode cX4_grows 117 = .ok (.aload_n 0, 1) := dk_42 (dk_at dksX4_grows_4 23 rfl rfl)
theorem dX4_grows_118 : decode cX4_grows 118 = .ok (.getfield 51, 3) := dk_180 0 51 (dk_at dksX4_grows_5 0 rfl rfl)
theorem dX4_grows_121 : decode cX4_grows 121 = .ok (.bipush 12, 2) := dk_16 12 (dk_at dksX4_grows_5 3 rfl rfl)
theorem dX4_grows_123 : decode cX4_grows 123 = .ok (.irem, 1) := dk_112 (dk_at dksX4_grows_5 5 rfl rfl)
theorem dX4_grows_124 : decode cX4_grows 124 = .ok (.putfield 108, 3) := dk_181 0 108 (dk_at dksX4_grows_5 6 rfl rfl)
theorem dX4_grows_127 : decode cX4_grows 127 = .ok (.aload_n 0, 1) := dk_42 (dk_at dksX4_grows_5 9 rfl rfl)
theorem dX4_grows_128 : decode cX4_grows 128 = .ok (.getfield 36, 3) := dk_180 0 36 (dk_at dksX4_grows_5 10 rfl rfl)
theorem dX4_grows_131 : decode cX4_grows 131 = .ok (.aload_n 0, 1) := dk_42 (dk_at dksX4_grows_5 13 rfl rfl)
theorem dX4_grows_132 : decode cX4_grows 132 = .ok (.invokevirtual 109, 3) := dk_182 0 109 (dk_at dksX4_grows_5 14 rfl rfl)
theorem dX4_grows_135 : decode cX4_grows 135 = .ok (.putfield 112, 3) := dk_181 0 112 (dk_at dksX4_grows_5 17 rfl rfl)
theorem dX4_grows_138 : decode cX4_grows 138 = .ok (.aload_n 0, 1) := dk_42 (dk_at dksX4_grows_5 20 rfl rfl)
theorem dX4_grows_139 : decode cX4_grows 139 = .ok (.getfield 36, 3) := dk_180 0 36 (dk_at dksX4_grows_5 21 rfl rfl)
theorem dX4_grows_142 : decode cX4_grows 142 = .ok (.iload_n 1, 1) := dk_27 (dk_at dksX4_grows_6 0 rfl rfl)
theorem dX4_grows_143 : decode cX4_grows 143 = .ok (.putfield 114, 3) := dk_181 0 114 (dk_at dksX4_grows_6 1 rfl rfl)
theorem dX4_grows_146 : decode cX4_grows 146 = .ok (.aload_n 0, 1) := dk_42 (dk_at dksX4_grows_6 4 rfl rfl)
theorem dX4_grows_147 : decode cX4_grows 147 = .ok (.getfield 47, 3) := dk_180 0 47 (dk_at dksX4_grows_6 5 rfl rfl)
theorem dX4_grows_150 : decode cX4_grows 150 = .ok (.aload_n 0, 1) := dk_42 (dk_at dksX4_grows_6 8 rfl rfl)
theorem dX4_grows_151 : decode cX4_grows 151 = .ok (.getfield 36, 3) := dk_180 0 36 (dk_at dksX4_grows_6 9 rfl rfl)
theorem dX4_grows_154 : decode cX4_grows 154 = .ok (.invokevirtual 117, 3) := dk_182 0 117 (dk_at dksX4_grows_6 12 rfl rfl)
theorem dX4_grows_157 : decode cX4_grows 157 = .ok (.ireturn, 1) := dk_172 (dk_at dksX4_grows_6 15 rfl rfl)
abbrev cX4_rain : ByteArray := prog_17_method_11_code
def yX4_rain : MethodName := ⟨RX4, "rain", "()I"⟩
def dkwX4_rain_1 : List UInt8 := [167, 0, 7, 42, 180, 0, 61, 172]
abbrev dktX4_rain_1 : List UInt8 := dkwX4_rain_1 ++ []
def dkwX4_rain_0 : List UInt8 := [42, 180, 0, 61, 2, 160, 0, 21, 42, 180, 0, 43, 180, 0, 86, 42, 180, 0, 51, 16, 12, 112, 46]
abbrev dktX4_rain_0 : List UInt8 := dkwX4_rain_0 ++ dktX4_rain_1
theorem dksX4_rain_0 : cX4_rain.data.toList.drop 0 = dktX4_rain_0 := by decide +kernel
theorem dksX4_rain_1 : cX4_rain.data.toList.drop 23 = dktX4_rain_1 := dk_seg dksX4_rain_0 23 rfl rfl
theorem dX4_rain_0 : decode cX4_rain 0 = .ok (.aload_n 0, 1) := dk_42 (dk_at dksX4_rain_0 0 rfl rfl)
theorem dX4_rain_1 : decode cX4_rain 1 = .ok (.getfield 61, 3) := dk_180 0 61 (dk_at dksX4_rain_0 1 rfl rfl)
theorem dX4_rain_4 : decode cX4_rain 4 = .ok (.iconst (-1), 1) := dk_2 (dk_at dksX4_rain_0 4 rfl rfl)
theorem dX4_rain_5 : decode cX4_rain 5 = .ok (.if_icmp .ne 21, 3) := dk_160 0 21 (dk_at dksX4_rain_0 5 rfl rfl)
theorem dX4_rain_8 : decode cX4_rain 8 = .ok (.aload_n 0, 1) := dk_42 (dk_at dksX4_rain_0 8 rfl rfl)
theorem dX4_rain_9 : decode cX4_rain 9 = .ok (.getfield 43, 3) := dk_180 0 43 (dk_at dksX4_rain_0 9 rfl rfl)
theorem dX4_rain_12 : decode cX4_rain 12 = .ok (.getfield 86, 3) := dk_180 0 86 (dk_at dksX4_rain_0 12 rfl rfl)
theorem dX4_rain_15 : decode cX4_rain 15 = .ok (.aload_n 0, 1) := dk_42 (dk_at dksX4_rain_0 15 rfl rfl)
theorem dX4_rain_16 : decode cX4_rain 16 = .ok (.getfield 51, 3) := dk_180 0 51 (dk_at dksX4_rain_0 16 rfl rfl)
theorem dX4_rain_19 : decode cX4_rain 19 = .ok (.bipush 12, 2) := dk_16 12 (dk_at dksX4_rain_0 19 rfl rfl)
theorem dX4_rain_21 : decode cX4_rain 21 = .ok (.irem, 1) := dk_112 (dk_at dksX4_rain_0 21 rfl rfl)
theorem dX4_rain_22 : decode cX4_rain 22 = .ok (.iaload, 1) := dk_46 (dk_at dksX4_rain_0 22 rfl rfl)
theorem dX4_rain_23 : decode cX4_rain 23 = .ok (.goto 7, 3) := dk_167 0 7 (dk_at dksX4_rain_1 0 rfl rfl)
theorem dX4_rain_26 : decode cX4_rain 26 = .ok (.aload_n 0, 1) := dk_42 (dk_at dksX4_rain_1 3 rfl rfl)
theorem dX4_rain_27 : decode cX4_rain 27 = .ok (.getfield 61, 3) := dk_180 0 61 (dk_at dksX4_rain_1 4 rfl rfl)
theorem dX4_rain_30 : decode cX4_rain 30 = .ok (.ireturn, 1) := dk_172 (dk_at dksX4_rain_1 7 rfl rfl)
abbrev cX4_gain : ByteArray := prog_17_method_10_code
def yX4_gain : MethodName := ⟨RX4, "gain", "(I)I"⟩
def dkwX4_gain_1 : List UInt8 := [182, 0, 83, 100, 172]
abbrev dktX4_gain_1 : List UInt8 := dkwX4_gain_1 ++ []
def dkwX4_gain_0 : List UInt8 := [42, 180, 0, 21, 27, 46, 2, 160, 0, 7, 3, 167, 0, 15, 42, 180, 0, 15, 27, 46, 42, 27]
abbrev dktX4_gain_0 : List UInt8 := dkwX4_gain_0 ++ dktX4_gain_1
theorem dksX4_gain_0 : cX4_gain.data.toList.drop 0 = dktX4_gain_0 := by decide +kernel
theorem dksX4_gain_1 : cX4_gain.data.toList.drop 22 = dktX4_gain_1 := dk_seg dksX4_gain_0 22 rfl rfl
theorem dX4_gain_0 : decode cX4_gain 0 = .ok (.aload_n 0, 1) := dk_42 (dk_at dksX4_gain_0 0 rfl rfl)
theorem dX4_gain_1 : decode cX4_gain 1 = .ok (.getfield 21, 3) := dk_180 0 21 (dk_at dksX4_gain_0 1 rfl rfl)
theorem dX4_gain_4 : decode cX4_gain 4 = .ok (.iload_n 1, 1) := dk_27 (dk_at dksX4_gain_0 4 rfl rfl)
theorem dX4_gain_5 : decode cX4_gain 5 = .ok (.iaload, 1) := dk_46 (dk_at dksX4_gain_0 5 rfl rfl)
theorem dX4_gain_6 : decode cX4_gain 6 = .ok (.iconst (-1), 1) := dk_2 (dk_at dksX4_gain_0 6 rfl rfl)
theorem dX4_gain_7 : decode cX4_gain 7 = .ok (.if_icmp .ne 7, 3) := dk_160 0 7 (dk_at dksX4_gain_0 7 rfl rfl)
theorem dX4_gain_10 : decode cX4_gain 10 = .ok (.iconst 0, 1) := dk_3 (dk_at dksX4_gain_0 10 rfl rfl)
theorem dX4_gain_11 : decode cX4_gain 11 = .ok (.goto 15, 3) := dk_167 0 15 (dk_at dksX4_gain_0 11 rfl rfl)
theorem dX4_gain_14 : decode cX4_gain 14 = .ok (.aload_n 0, 1) := dk_42 (dk_at dksX4_gain_0 14 rfl rfl)
theorem dX4_gain_15 : decode cX4_gain 15 = .ok (.getfield 15, 3) := dk_180 0 15 (dk_at dksX4_gain_0 15 rfl rfl)
theorem dX4_gain_18 : decode cX4_gain 18 = .ok (.iload_n 1, 1) := dk_27 (dk_at dksX4_gain_0 18 rfl rfl)
theorem dX4_gain_19 : decode cX4_gain 19 = .ok (.iaload, 1) := dk_46 (dk_at dksX4_gain_0 19 rfl rfl)
theorem dX4_gain_20 : decode cX4_gain 20 = .ok (.aload_n 0, 1) := dk_42 (dk_at dksX4_gain_0 20 rfl rfl)
theorem dX4_gain_21 : decode cX4_gain 21 = .ok (.iload_n 1, 1) := dk_27 (dk_at dksX4_gain_0 21 rfl rfl)
theorem dX4_gain_22 : decode cX4_gain 22 = .ok (.invokevirtual 83, 3) := dk_182 0 83 (dk_at dksX4_gain_1 0 rfl rfl)
theorem dX4_gain_25 : decode cX4_gain 25 = .ok (.isub, 1) := dk_100 (dk_at dksX4_gain_1 3 rfl rfl)
theorem dX4_gain_26 : decode cX4_gain 26 = .ok (.ireturn, 1) := dk_172 (dk_at dksX4_gain_1 4 rfl rfl)
abbrev cX4_isAt : ByteArray := prog_17_method_9_code
def yX4_isAt : MethodName := ⟨RX4, "isAt", "(I)I"⟩
def dkwX4_isAt_1 : List UInt8 := [42, 180, 0, 24, 27, 46, 96, 172]
abbrev dktX4_isAt_1 : List UInt8 := dkwX4_isAt_1 ++ []
def dkwX4_isAt_0 : List UInt8 := [42, 180, 0, 21, 27, 46, 2, 160, 0, 7, 3, 167, 0, 20, 42, 42, 180, 0, 21, 27, 46, 182, 0, 79]
abbrev dktX4_isAt_0 : List UInt8 := dkwX4_isAt_0 ++ dktX4_isAt_1
theorem dksX4_isAt_0 : cX4_isAt.data.toList.drop 0 = dktX4_isAt_0 := by decide +kernel
theorem dksX4_isAt_1 : cX4_isAt.data.toList.drop 24 = dktX4_isAt_1 := dk_seg dksX4_isAt_0 24 rfl rfl
theorem dX4_isAt_0 : decode cX4_isAt 0 = .ok (.aload_n 0, 1) := dk_42 (dk_at dksX4_isAt_0 0 rfl rfl)
theorem dX4_isAt_1 : decode cX4_isAt 1 = .ok (.getfield 21, 3) := dk_180 0 21 (dk_at dksX4_isAt_0 1 rfl rfl)
theorem dX4_isAt_4 : decode cX4_isAt 4 = .ok (.iload_n 1, 1) := dk_27 (dk_at dksX4_isAt_0 4 rfl rfl)
theorem dX4_isAt_5 : decode cX4_isAt 5 = .ok (.iaload, 1) := dk_46 (dk_at dksX4_isAt_0 5 rfl rfl)
theorem dX4_isAt_6 : decode cX4_isAt 6 = .ok (.iconst (-1), 1) := dk_2 (dk_at dksX4_isAt_0 6 rfl rfl)
theorem dX4_isAt_7 : decode cX4_isAt 7 = .ok (.if_icmp .ne 7, 3) := dk_160 0 7 (dk_at dksX4_isAt_0 7 rfl rfl)
theorem dX4_isAt_10 : decode cX4_isAt 10 = .ok (.iconst 0, 1) := dk_3 (dk_at dksX4_isAt_0 10 rfl rfl)
theorem dX4_isAt_11 : decode cX4_isAt 11 = .ok (.goto 20, 3) := dk_167 0 20 (dk_at dksX4_isAt_0 11 rfl rfl)
theorem dX4_isAt_14 : decode cX4_isAt 14 = .ok (.aload_n 0, 1) := dk_42 (dk_at dksX4_isAt_0 14 rfl rfl)
theorem dX4_isAt_15 : decode cX4_isAt 15 = .ok (.aload_n 0, 1) := dk_42 (dk_at dksX4_isAt_0 15 rfl rfl)
theorem dX4_isAt_16 : decode cX4_isAt 16 = .ok (.getfield 21, 3) := dk_180 0 21 (dk_at dksX4_isAt_0 16 rfl rfl)
theorem dX4_isAt_19 : decode cX4_isAt 19 = .ok (.iload_n 1, 1) := dk_27 (dk_at dksX4_isAt_0 19 rfl rfl)
theorem dX4_isAt_20 : decode cX4_isAt 20 = .ok (.iaload, 1) := dk_46 (dk_at dksX4_isAt_0 20 rfl rfl)
theorem dX4_isAt_21 : decode cX4_isAt 21 = .ok (.invokevirtual 79, 3) := dk_182 0 79 (dk_at dksX4_isAt_0 21 rfl rfl)
theorem dX4_isAt_24 : decode cX4_isAt 24 = .ok (.aload_n 0, 1) := dk_42 (dk_at dksX4_isAt_1 0 rfl rfl)
theorem dX4_isAt_25 : decode cX4_isAt 25 = .ok (.getfield 24, 3) := dk_180 0 24 (dk_at dksX4_isAt_1 1 rfl rfl)
theorem dX4_isAt_28 : decode cX4_isAt 28 = .ok (.iload_n 1, 1) := dk_27 (dk_at dksX4_isAt_1 4 rfl rfl)
theorem dX4_isAt_29 : decode cX4_isAt 29 = .ok (.iaload, 1) := dk_46 (dk_at dksX4_isAt_1 5 rfl rfl)
theorem dX4_isAt_30 : decode cX4_isAt 30 = .ok (.iadd, 1) := dk_96 (dk_at dksX4_isAt_1 6 rfl rfl)
theorem dX4_isAt_31 : decode cX4_isAt 31 = .ok (.ireturn, 1) := dk_172 (dk_at dksX4_isAt_1 7 rfl rfl)
abbrev cX4_begin : ByteArray := prog_17_method_6_code
def yX4_begin : MethodName := ⟨RX4, "begin", "(I)I"⟩
def dkwX4_begin_1 : List UInt8 := [28, 172]
abbrev dktX4_begin_1 : List UInt8 := dkwX4_begin_1 ++ []
def dkwX4_begin_0 : List UInt8 := [3, 61, 3, 62, 29, 27, 162, 0, 18, 28, 42, 180, 0, 9, 29, 46, 96, 61, 132, 3, 1, 167, 255, 239]
abbrev dktX4_begin_0 : List UInt8 := dkwX4_begin_0 ++ dktX4_begin_1
theorem dksX4_begin_0 : cX4_begin.data.toList.drop 0 = dktX4_begin_0 := by decide +kernel
theorem dksX4_begin_1 : cX4_begin.data.toList.drop 24 = dktX4_begin_1 := dk_seg dksX4_begin_0 24 rfl rfl
theorem dX4_begin_0 : decode cX4_begin 0 = .ok (.iconst 0, 1) := dk_3 (dk_at dksX4_begin_0 0 rfl rfl)
theorem dX4_begin_1 : decode cX4_begin 1 = .ok (.istore_n 2, 1) := dk_61 (dk_at dksX4_begin_0 1 rfl rfl)
theorem dX4_begin_2 : decode cX4_begin 2 = .ok (.iconst 0, 1) := dk_3 (dk_at dksX4_begin_0 2 rfl rfl)
theorem dX4_begin_3 : decode cX4_begin 3 = .ok (.istore_n 3, 1) := dk_62 (dk_at dksX4_begin_0 3 rfl rfl)
theorem dX4_begin_4 : decode cX4_begin 4 = .ok (.iload_n 3, 1) := dk_29 (dk_at dksX4_begin_0 4 rfl rfl)
theorem dX4_begin_5 : decode cX4_begin 5 = .ok (.iload_n 1, 1) := dk_27 (dk_at dksX4_begin_0 5 rfl rfl)
theorem dX4_begin_6 : decode cX4_begin 6 = .ok (.if_icmp .ge 18, 3) := dk_162 0 18 (dk_at dksX4_begin_0 6 rfl rfl)
theorem dX4_begin_9 : decode cX4_begin 9 = .ok (.iload_n 2, 1) := dk_28 (dk_at dksX4_begin_0 9 rfl rfl)
theorem dX4_begin_10 : decode cX4_begin 10 = .ok (.aload_n 0, 1) := dk_42 (dk_at dksX4_begin_0 10 rfl rfl)
theorem dX4_begin_11 : decode cX4_begin 11 = .ok (.getfield 9, 3) := dk_180 0 9 (dk_at dksX4_begin_0 11 rfl rfl)
theorem dX4_begin_14 : decode cX4_begin 14 = .ok (.iload_n 3, 1) := dk_29 (dk_at dksX4_begin_0 14 rfl rfl)
theorem dX4_begin_15 : decode cX4_begin 15 = .ok (.iaload, 1) := dk_46 (dk_at dksX4_begin_0 15 rfl rfl)
theorem dX4_begin_16 : decode cX4_begin 16 = .ok (.iadd, 1) := dk_96 (dk_at dksX4_begin_0 16 rfl rfl)
theorem dX4_begin_17 : decode cX4_begin 17 = .ok (.istore_n 2, 1) := dk_61 (dk_at dksX4_begin_0 17 rfl rfl)
theorem dX4_begin_18 : decode cX4_begin 18 = .ok (.iinc 3 1, 3) := dk_132 3 1 (dk_at dksX4_begin_0 18 rfl rfl)
theorem dX4_begin_21 : decode cX4_begin 21 = .ok (.goto (-17), 3) := dk_167 255 239 (dk_at dksX4_begin_0 21 rfl rfl)
theorem dX4_begin_24 : decode cX4_begin 24 = .ok (.iload_n 2, 1) := dk_28 (dk_at dksX4_begin_1 0 rfl rfl)
theorem dX4_begin_25 : decode cX4_begin 25 = .ok (.ireturn, 1) := dk_172 (dk_at dksX4_begin_1 1 rfl rfl)
abbrev cX4_door : ByteArray := prog_17_method_7_code
def yX4_door : MethodName := ⟨RX4, "door", "()I"⟩
def dkwX4_door_0 : List UInt8 := [42, 42, 180, 0, 43, 180, 0, 76, 182, 0, 79, 172]
abbrev dktX4_door_0 : List UInt8 := dkwX4_door_0 ++ []
theorem dksX4_door_0 : cX4_door.data.toList.drop 0 = dktX4_door_0 := by decide +kernel
theorem dX4_door_0 : decode cX4_door 0 = .ok (.aload_n 0, 1) := dk_42 (dk_at dksX4_door_0 0 rfl rfl)
theorem dX4_door_1 : decode cX4_door 1 = .ok (.aload_n 0, 1) := dk_42 (dk_at dksX4_door_0 1 rfl rfl)
theorem dX4_door_2 : decode cX4_door 2 = .ok (.getfield 43, 3) := dk_180 0 43 (dk_at dksX4_door_0 2 rfl rfl)
theorem dX4_door_5 : decode cX4_door 5 = .ok (.getfield 76, 3) := dk_180 0 76 (dk_at dksX4_door_0 5 rfl rfl)
theorem dX4_door_8 : decode cX4_door 8 = .ok (.invokevirtual 79, 3) := dk_182 0 79 (dk_at dksX4_door_0 8 rfl rfl)
theorem dX4_door_11 : decode cX4_door 11 = .ok (.ireturn, 1) := dk_172 (dk_at dksX4_door_0 11 rfl rfl)
abbrev cX4_swells : ByteArray := prog_17_method_13_code
def yX4_swells : MethodName := ⟨RX4, "swells", "(I)I"⟩
def dkwX4_swells_1 : List UInt8 := [7, 108, 42, 180, 0, 55, 100, 184, 0, 125, 96, 184, 0, 131, 42, 180, 0, 9, 27, 46, 100, 172]
abbrev dktX4_swells_1 : List UInt8 := dkwX4_swells_1 ++ []
def dkwX4_swells_0 : List UInt8 := [17, 3, 231, 42, 180, 0, 9, 27, 46, 3, 42, 180, 0, 43, 180, 0, 123, 27, 46, 42, 182, 0, 98, 96]
abbrev dktX4_swells_0 : List UInt8 := dkwX4_swells_0 ++ dktX4_swells_1
theorem dksX4_swells_0 : cX4_swells.data.toList.drop 0 = dktX4_swells_0 := by decide +kernel
theorem dksX4_swells_1 : cX4_swells.data.toList.drop 24 = dktX4_swells_1 := dk_seg dksX4_swells_0 24 rfl rfl
theorem dX4_swells_0 : decode cX4_swells 0 = .ok (.sipush 999, 3) := dk_17 3 231 (dk_at dksX4_swells_0 0 rfl rfl)
theorem dX4_swells_3 : decode cX4_swells 3 = .ok (.aload_n 0, 1) := dk_42 (dk_at dksX4_swells_0 3 rfl rfl)
theorem dX4_swells_4 : decode cX4_swells 4 = .ok (.getfield 9, 3) := dk_180 0 9 (dk_at dksX4_swells_0 4 rfl rfl)
theorem dX4_swells_7 : decode cX4_swells 7 = .ok (.iload_n 1, 1) := dk_27 (dk_at dksX4_swells_0 7 rfl rfl)
theorem dX4_swells_8 : decode cX4_swells 8 = .ok (.iaload, 1) := dk_46 (dk_at dksX4_swells_0 8 rfl rfl)
theorem dX4_swells_9 : decode cX4_swells 9 = .ok (.iconst 0, 1) := dk_3 (dk_at dksX4_swells_0 9 rfl rfl)
theorem dX4_swells_10 : decode cX4_swells 10 = .ok (.aload_n 0, 1) := dk_42 (dk_at dksX4_swells_0 10 rfl rfl)
theorem dX4_swells_11 : decode cX4_swells 11 = .ok (.getfield 43, 3) := dk_180 0 43 (dk_at dksX4_swells_0 11 rfl rfl)
theorem dX4_swells_14 : decode cX4_swells 14 = .ok (.getfield 123, 3) := dk_180 0 123 (dk_at dksX4_swells_0 14 rfl rfl)
theorem dX4_swells_17 : decode cX4_swells 17 = .ok (.iload_n 1, 1) := dk_27 (dk_at dksX4_swells_0 17 rfl rfl)
theorem dX4_swells_18 : decode cX4_swells 18 = .ok (.iaload, 1) := dk_46 (dk_at dksX4_swells_0 18 rfl rfl)
theorem dX4_swells_19 : decode cX4_swells 19 = .ok (.aload_n 0, 1) := dk_42 (dk_at dksX4_swells_0 19 rfl rfl)
theorem dX4_swells_20 : decode cX4_swells 20 = .ok (.invokevirtual 98, 3) := dk_182 0 98 (dk_at dksX4_swells_0 20 rfl rfl)
theorem dX4_swells_23 : decode cX4_swells 23 = .ok (.iadd, 1) := dk_96 (dk_at dksX4_swells_0 23 rfl rfl)
theorem dX4_swells_24 : decode cX4_swells 24 = .ok (.iconst 4, 1) := dk_7 (dk_at dksX4_swells_1 0 rfl rfl)
theorem dX4_swells_25 : decode cX4_swells 25 = .ok (.idiv, 1) := dk_108 (dk_at dksX4_swells_1 1 rfl rfl)
theorem dX4_swells_26 : decode cX4_swells 26 = .ok (.aload_n 0, 1) := dk_42 (dk_at dksX4_swells_1 2 rfl rfl)
theorem dX4_swells_27 : decode cX4_swells 27 = .ok (.getfield 55, 3) := dk_180 0 55 (dk_at dksX4_swells_1 3 rfl rfl)
theorem dX4_swells_30 : decode cX4_swells 30 = .ok (.isub, 1) := dk_100 (dk_at dksX4_swells_1 6 rfl rfl)
theorem dX4_swells_31 : decode cX4_swells 31 = .ok (.invokestatic 125, 3) := dk_184 0 125 (dk_at dksX4_swells_1 7 rfl rfl)
theorem dX4_swells_34 : decode cX4_swells 34 = .ok (.iadd, 1) := dk_96 (dk_at dksX4_swells_1 10 rfl rfl)
theorem dX4_swells_35 : decode cX4_swells 35 = .ok (.invokestatic 131, 3) := dk_184 0 131 (dk_at dksX4_swells_1 11 rfl rfl)
theorem dX4_swells_38 : decode cX4_swells 38 = .ok (.aload_n 0, 1) := dk_42 (dk_at dksX4_swells_1 14 rfl rfl)
theorem dX4_swells_39 : decode cX4_swells 39 = .ok (.getfield 9, 3) := dk_180 0 9 (dk_at dksX4_swells_1 15 rfl rfl)
theorem dX4_swells_42 : decode cX4_swells 42 = .ok (.iload_n 1, 1) := dk_27 (dk_at dksX4_swells_1 18 rfl rfl)
theorem dX4_swells_43 : decode cX4_swells 43 = .ok (.iaload, 1) := dk_46 (dk_at dksX4_swells_1 19 rfl rfl)
theorem dX4_swells_44 : decode cX4_swells 44 = .ok (.isub, 1) := dk_100 (dk_at dksX4_swells_1 20 rfl rfl)
theorem dX4_swells_45 : decode cX4_swells 45 = .ok (.ireturn, 1) := dk_172 (dk_at dksX4_swells_1 21 rfl rfl)
abbrev cX4_notches : ByteArray := prog_17_method_14_code
def yX4_notches : MethodName := ⟨RX4, "notches", "(I)Z"⟩
def dkwX4_notches_3 : List UInt8 := [4, 172]
abbrev dktX4_notches_3 : List UInt8 := dkwX4_notches_3 ++ []
def dkwX4_notches_2 : List UInt8 := [27, 46, 42, 42, 180, 0, 21, 27, 46, 182, 0, 79, 100, 79, 42, 180, 0, 27, 27, 42, 180, 0, 51, 79]
abbrev dktX4_notches_2 : List UInt8 := dkwX4_notches_2 ++ dktX4_notches_3
def dkwX4_notches_1 : List UInt8 := [180, 0, 21, 27, 42, 42, 180, 0, 15, 27, 46, 182, 0, 138, 79, 42, 180, 0, 24, 27, 42, 180, 0, 15]
abbrev dktX4_notches_1 : List UInt8 := dkwX4_notches_1 ++ dktX4_notches_2
def dkwX4_notches_0 : List UInt8 := [42, 27, 182, 0, 134, 153, 0, 16, 42, 180, 0, 15, 27, 46, 42, 182, 0, 109, 164, 0, 5, 3, 172, 42]
abbrev dktX4_notches_0 : List UInt8 := dkwX4_notches_0 ++ dktX4_notches_1
theorem dksX4_notches_0 : cX4_notches.data.toList.drop 0 = dktX4_notches_0 := by decide +kernel
theorem dksX4_notches_1 : cX4_notches.data.toList.drop 24 = dktX4_notches_1 := dk_seg dksX4_notches_0 24 rfl rfl
theorem dksX4_notches_2 : cX4_notches.data.toList.drop 48 = dktX4_notches_2 := dk_seg dksX4_notches_1 24 rfl rfl
theorem dksX4_notches_3 : cX4_notches.data.toList.drop 72 = dktX4_notches_3 := dk_seg dksX4_notches_2 24 rfl rfl
theorem dX4_notches_0 : decode cX4_notches 0 = .ok (.aload_n 0, 1) := dk_42 (dk_at dksX4_notches_0 0 rfl rfl)
theorem dX4_notches_1 : decode cX4_notches 1 = .ok (.iload_n 1, 1) := dk_27 (dk_at dksX4_notches_0 1 rfl rfl)
theorem dX4_notches_2 : decode cX4_notches 2 = .ok (.invokevirtual 134, 3) := dk_182 0 134 (dk_at dksX4_notches_0 2 rfl rfl)
theorem dX4_notches_5 : decode cX4_notches 5 = .ok (.ifCond .eq 16, 3) := dk_153 0 16 (dk_at dksX4_notches_0 5 rfl rfl)
theorem dX4_notches_8 : decode cX4_notches 8 = .ok (.aload_n 0, 1) := dk_42 (dk_at dksX4_notches_0 8 rfl rfl)
theorem dX4_notches_9 : decode cX4_notches 9 = .ok (.getfield 15, 3) := dk_180 0 15 (dk_at dksX4_notches_0 9 rfl rfl)
theorem dX4_notches_12 : decode cX4_notches 12 = .ok (.iload_n 1, 1) := dk_27 (dk_at dksX4_notches_0 12 rfl rfl)
theorem dX4_notches_13 : decode cX4_notches 13 = .ok (.iaload, 1) := dk_46 (dk_at dksX4_notches_0 13 rfl rfl)
theorem dX4_notches_14 : decode cX4_notches 14 = .ok (.aload_n 0, 1) := dk_42 (dk_at dksX4_notches_0 14 rfl rfl)
theorem dX4_notches_15 : decode cX4_notches 15 = .ok (.invokevirtual 109, 3) := dk_182 0 109 (dk_at dksX4_notches_0 15 rfl rfl)
theorem dX4_notches_18 : decode cX4_notches 18 = .ok (.if_icmp .le 5, 3) := dk_164 0 5 (dk_at dksX4_notches_0 18 rfl rfl)
theorem dX4_notches_21 : decode cX4_notches 21 = .ok (.iconst 0, 1) := dk_3 (dk_at dksX4_notches_0 21 rfl rfl)
theorem dX4_notches_22 : decode cX4_notches 22 = .ok (.ireturn, 1) := dk_172 (dk_at dksX4_notches_0 22 rfl rfl)
theorem dX4_notches_23 : decode cX4_notches 23 = .ok (.aload_n 0, 1) := dk_42 (dk_at dksX4_notches_0 23 rfl rfl)
theorem dX4_notches_24 : decode cX4_notches 24 = .ok (.getfield 21, 3) := dk_180 0 21 (dk_at dksX4_notches_1 0 rfl rfl)
theorem dX4_notches_27 : decode cX4_notches 27 = .ok (.iload_n 1, 1) := dk_27 (dk_at dksX4_notches_1 3 rfl rfl)
theorem dX4_notches_28 : decode cX4_notches 28 = .ok (.aload_n 0, 1) := dk_42 (dk_at dksX4_notches_1 4 rfl rfl)
theorem dX4_notches_29 : decode cX4_notches 29 = .ok (.aload_n 0, 1) := dk_42 (dk_at dksX4_notches_1 5 rfl rfl)
theorem dX4_notches_30 : decode cX4_notches 30 = .ok (.getfield 15, 3) := dk_180 0 15 (dk_at dksX4_notches_1 6 rfl rfl)
theorem dX4_notches_33 : decode cX4_notches 33 = .ok (.iload_n 1, 1) := dk_27 (dk_at dksX4_notches_1 9 rfl rfl)
theorem dX4_notches_34 : decode cX4_notches 34 = .ok (.iaload, 1) := dk_46 (dk_at dksX4_notches_1 10 rfl rfl)
theorem dX4_notches_35 : decode cX4_notches 35 = .ok (.invokevirtual 138, 3) := dk_182 0 138 (dk_at dksX4_notches_1 11 rfl rfl)
theorem dX4_notches_38 : decode cX4_notches 38 = .ok (.iastore, 1) := dk_79 (dk_at dksX4_notches_1 14 rfl rfl)
theorem dX4_notches_39 : decode cX4_notches 39 = .ok (.aload_n 0, 1) := dk_42 (dk_at dksX4_notches_1 15 rfl rfl)
theorem dX4_notches_40 : decode cX4_notches 40 = .ok (.getfield 24, 3) := dk_180 0 24 (dk_at dksX4_notches_1 16 rfl rfl)
theorem dX4_notches_43 : decode cX4_notches 43 = .ok (.iload_n 1, 1) := dk_27 (dk_at dksX4_notches_1 19 rfl rfl)
theorem dX4_notches_44 : decode cX4_notches 44 = .ok (.aload_n 0, 1) := dk_42 (dk_at dksX4_notches_1 20 rfl rfl)
theorem dX4_notches_45 : decode cX4_notches 45 = .ok (.getfield 15, 3) := dk_180 0 15 (dk_at dksX4_notches_1 21 rfl rfl)
theorem dX4_notches_48 : decode cX4_notches 48 = .ok (.iload_n 1, 1) := dk_27 (dk_at dksX4_notches_2 0 rfl rfl)
theorem dX4_notches_49 : decode cX4_notches 49 = .ok (.iaload, 1) := dk_46 (dk_at dksX4_notches_2 1 rfl rfl)
theorem dX4_notches_50 : decode cX4_notches 50 = .ok (.aload_n 0, 1) := dk_42 (dk_at dksX4_notches_2 2 rfl rfl)
theorem dX4_notches_51 : decode cX4_notches 51 = .ok (.aload_n 0, 1) := dk_42 (dk_at dksX4_notches_2 3 rfl rfl)
theorem dX4_notches_52 : decode cX4_notches 52 = .ok (.getfield 21, 3) := dk_180 0 21 (dk_at dksX4_notches_2 4 rfl rfl)
theorem dX4_notches_55 : decode cX4_notches 55 = .ok (.iload_n 1, 1) := dk_27 (dk_at dksX4_notches_2 7 rfl rfl)
theorem dX4_notches_56 : decode cX4_notches 56 = .ok (.iaload, 1) := dk_46 (dk_at dksX4_notches_2 8 rfl rfl)
theorem dX4_notches_57 : decode cX4_notches 57 = .ok (.invokevirtual 79, 3) := dk_182 0 79 (dk_at dksX4_notches_2 9 rfl rfl)
theorem dX4_notches_60 : decode cX4_notches 60 = .ok (.isub, 1) := dk_100 (dk_at dksX4_notches_2 12 rfl rfl)
theorem dX4_notches_61 : decode cX4_notches 61 = .ok (.iastore, 1) := dk_79 (dk_at dksX4_notches_2 13 rfl rfl)
theorem dX4_notches_62 : decode cX4_notches 62 = .ok (.aload_n 0, 1) := dk_42 (dk_at dksX4_notches_2 14 rfl rfl)
theorem dX4_notches_63 : decode cX4_notches 63 = .ok (.getfield 27, 3) := dk_180 0 27 (dk_at dksX4_notches_2 15 rfl rfl)
theorem dX4_notches_66 : decode cX4_notches 66 = .ok (.iload_n 1, 1) := dk_27 (dk_at dksX4_notches_2 18 rfl rfl)
theorem dX4_notches_67 : decode cX4_notches 67 = .ok (.aload_n 0, 1) := dk_42 (dk_at dksX4_notches_2 19 rfl rfl)
theorem dX4_notches_68 : decode cX4_notches 68 = .ok (.getfield 51, 3) := dk_180 0 51 (dk_at dksX4_notches_2 20 rfl rfl)
theorem dX4_notches_71 : decode cX4_notches 71 = .ok (.iastore, 1) := dk_79 (dk_at dksX4_notches_2 23 rfl rfl)
theorem dX4_notches_72 : decode cX4_notches 72 = .ok (.iconst 1, 1) := dk_4 (dk_at dksX4_notches_3 0 rfl rfl)
theorem dX4_notches_73 : decode cX4_notches 73 = .ok (.ireturn, 1) := dk_172 (dk_at dksX4_notches_3 1 rfl rfl)
abbrev cX4_isThere : ByteArray := prog_17_method_4_code
def yX4_isThere : MethodName := ⟨RX4, "isThere", "(I)Z"⟩
def dkwX4_isThere_0 : List UInt8 := [42, 180, 0, 58, 27, 122, 4, 126, 154, 0, 7, 4, 167, 0, 4, 3, 172]
abbrev dktX4_isThere_0 : List UInt8 := dkwX4_isThere_0 ++ []
theorem dksX4_isThere_0 : cX4_isThere.data.toList.drop 0 = dktX4_isThere_0 := by decide +kernel
theorem dX4_isThere_0 : decode cX4_isThere 0 = .ok (.aload_n 0, 1) := dk_42 (dk_at dksX4_isThere_0 0 rfl rfl)
theorem dX4_isThere_1 : decode cX4_isThere 1 = .ok (.getfield 58, 3) := dk_180 0 58 (dk_at dksX4_isThere_0 1 rfl rfl)
theorem dX4_isThere_4 : decode cX4_isThere 4 = .ok (.iload_n 1, 1) := dk_27 (dk_at dksX4_isThere_0 4 rfl rfl)
theorem dX4_isThere_5 : decode cX4_isThere 5 = .ok (.ishr, 1) := dk_122 (dk_at dksX4_isThere_0 5 rfl rfl)
theorem dX4_isThere_6 : decode cX4_isThere 6 = .ok (.iconst 1, 1) := dk_4 (dk_at dksX4_isThere_0 6 rfl rfl)
theorem dX4_isThere_7 : decode cX4_isThere 7 = .ok (.iand, 1) := dk_126 (dk_at dksX4_isThere_0 7 rfl rfl)
theorem dX4_isThere_8 : decode cX4_isThere 8 = .ok (.ifCond .ne 7, 3) := dk_154 0 7 (dk_at dksX4_isThere_0 8 rfl rfl)
theorem dX4_isThere_11 : decode cX4_isThere 11 = .ok (.iconst 1, 1) := dk_4 (dk_at dksX4_isThere_0 11 rfl rfl)
theorem dX4_isThere_12 : decode cX4_isThere 12 = .ok (.goto 4, 3) := dk_167 0 4 (dk_at dksX4_isThere_0 12 rfl rfl)
theorem dX4_isThere_15 : decode cX4_isThere 15 = .ok (.iconst 0, 1) := dk_3 (dk_at dksX4_isThere_0 15 rfl rfl)
theorem dX4_isThere_16 : decode cX4_isThere 16 = .ok (.ireturn, 1) := dk_172 (dk_at dksX4_isThere_0 16 rfl rfl)
abbrev cX4_lies : ByteArray := prog_17_method_8_code
def yX4_lies : MethodName := ⟨RX4, "lies", "(I)I"⟩
def dkwX4_lies_1 : List UInt8 := [28, 172, 132, 2, 1, 167, 255, 229, 2, 172]
abbrev dktX4_lies_1 : List UInt8 := dkwX4_lies_1 ++ []
def dkwX4_lies_0 : List UInt8 := [3, 61, 28, 42, 180, 0, 43, 180, 0, 76, 162, 0, 22, 27, 42, 28, 4, 96, 182, 0, 79, 163, 0, 5]
abbrev dktX4_lies_0 : List UInt8 := dkwX4_lies_0 ++ dktX4_lies_1
theorem dksX4_lies_0 : cX4_lies.data.toList.drop 0 = dktX4_lies_0 := by decide +kernel
theorem dksX4_lies_1 : cX4_lies.data.toList.drop 24 = dktX4_lies_1 := dk_seg dksX4_lies_0 24 rfl rfl
theorem dX4_lies_0 : decode cX4_lies 0 = .ok (.iconst 0, 1) := dk_3 (dk_at dksX4_lies_0 0 rfl rfl)
theorem dX4_lies_1 : decode cX4_lies 1 = .ok (.istore_n 2, 1) := dk_61 (dk_at dksX4_lies_0 1 rfl rfl)
theorem dX4_lies_2 : decode cX4_lies 2 = .ok (.iload_n 2, 1) := dk_28 (dk_at dksX4_lies_0 2 rfl rfl)
theorem dX4_lies_3 : decode cX4_lies 3 = .ok (.aload_n 0, 1) := dk_42 (dk_at dksX4_lies_0 3 rfl rfl)
theorem dX4_lies_4 : decode cX4_lies 4 = .ok (.getfield 43, 3) := dk_180 0 43 (dk_at dksX4_lies_0 4 rfl rfl)
theorem dX4_lies_7 : decode cX4_lies 7 = .ok (.getfield 76, 3) := dk_180 0 76 (dk_at dksX4_lies_0 7 rfl rfl)
theorem dX4_lies_10 : decode cX4_lies 10 = .ok (.if_icmp .ge 22, 3) := dk_162 0 22 (dk_at dksX4_lies_0 10 rfl rfl)
theorem dX4_lies_13 : decode cX4_lies 13 = .ok (.iload_n 1, 1) := dk_27 (dk_at dksX4_lies_0 13 rfl rfl)
theorem dX4_lies_14 : decode cX4_lies 14 = .ok (.aload_n 0, 1) := dk_42 (dk_at dksX4_lies_0 14 rfl rfl)
theorem dX4_lies_15 : decode cX4_lies 15 = .ok (.iload_n 2, 1) := dk_28 (dk_at dksX4_lies_0 15 rfl rfl)
theorem dX4_lies_16 : decode cX4_lies 16 = .ok (.iconst 1, 1) := dk_4 (dk_at dksX4_lies_0 16 rfl rfl)
theorem dX4_lies_17 : decode cX4_lies 17 = .ok (.iadd, 1) := dk_96 (dk_at dksX4_lies_0 17 rfl rfl)
theorem dX4_lies_18 : decode cX4_lies 18 = .ok (.invokevirtual 79, 3) := dk_182 0 79 (dk_at dksX4_lies_0 18 rfl rfl)
theorem dX4_lies_21 : decode cX4_lies 21 = .ok (.if_icmp .gt 5, 3) := dk_163 0 5 (dk_at dksX4_lies_0 21 rfl rfl)
theorem dX4_lies_24 : decode cX4_lies 24 = .ok (.iload_n 2, 1) := dk_28 (dk_at dksX4_lies_1 0 rfl rfl)
theorem dX4_lies_25 : decode cX4_lies 25 = .ok (.ireturn, 1) := dk_172 (dk_at dksX4_lies_1 1 rfl rfl)
theorem dX4_lies_26 : decode cX4_lies 26 = .ok (.iinc 2 1, 3) := dk_132 2 1 (dk_at dksX4_lies_1 2 rfl rfl)
theorem dX4_lies_29 : decode cX4_lies 29 = .ok (.goto (-27), 3) := dk_167 255 229 (dk_at dksX4_lies_1 5 rfl rfl)
theorem dX4_lies_32 : decode cX4_lies 32 = .ok (.iconst (-1), 1) := dk_2 (dk_at dksX4_lies_1 8 rfl rfl)
theorem dX4_lies_33 : decode cX4_lies 33 = .ok (.ireturn, 1) := dk_172 (dk_at dksX4_lies_1 9 rfl rfl)
abbrev cX4_goes : ByteArray := prog_17_method_18_code
def yX4_goes : MethodName := ⟨RX4, "goes", "(IZ)Z"⟩
def dkwX4_goes_1 : List UInt8 := [172]
abbrev dktX4_goes_1 : List UInt8 := dkwX4_goes_1 ++ []
def dkwX4_goes_0 : List UInt8 := [42, 27, 182, 0, 134, 28, 160, 0, 5, 3, 172, 42, 89, 180, 0, 58, 4, 27, 120, 130, 181, 0, 58, 4]
abbrev dktX4_goes_0 : List UInt8 := dkwX4_goes_0 ++ dktX4_goes_1
theorem dksX4_goes_0 : cX4_goes.data.toList.drop 0 = dktX4_goes_0 := by decide +kernel
theorem dksX4_goes_1 : cX4_goes.data.toList.drop 24 = dktX4_goes_1 := dk_seg dksX4_goes_0 24 rfl rfl
theorem dX4_goes_0 : decode cX4_goes 0 = .ok (.aload_n 0, 1) := dk_42 (dk_at dksX4_goes_0 0 rfl rfl)
theorem dX4_goes_1 : decode cX4_goes 1 = .ok (.iload_n 1, 1) := dk_27 (dk_at dksX4_goes_0 1 rfl rfl)
theorem dX4_goes_2 : decode cX4_goes 2 = .ok (.invokevirtual 134, 3) := dk_182 0 134 (dk_at dksX4_goes_0 2 rfl rfl)
theorem dX4_goes_5 : decode cX4_goes 5 = .ok (.iload_n 2, 1) := dk_28 (dk_at dksX4_goes_0 5 rfl rfl)
theorem dX4_goes_6 : decode cX4_goes 6 = .ok (.if_icmp .ne 5, 3) := dk_160 0 5 (dk_at dksX4_goes_0 6 rfl rfl)
theorem dX4_goes_9 : decode cX4_goes 9 = .ok (.iconst 0, 1) := dk_3 (dk_at dksX4_goes_0 9 rfl rfl)
theorem dX4_goes_10 : decode cX4_goes 10 = .ok (.ireturn, 1) := dk_172 (dk_at dksX4_goes_0 10 rfl rfl)
theorem dX4_goes_11 : decode cX4_goes 11 = .ok (.aload_n 0, 1) := dk_42 (dk_at dksX4_goes_0 11 rfl rfl)
theorem dX4_goes_12 : decode cX4_goes 12 = .ok (.dup, 1) := dk_89 (dk_at dksX4_goes_0 12 rfl rfl)
theorem dX4_goes_13 : decode cX4_goes 13 = .ok (.getfield 58, 3) := dk_180 0 58 (dk_at dksX4_goes_0 13 rfl rfl)
theorem dX4_goes_16 : decode cX4_goes 16 = .ok (.iconst 1, 1) := dk_4 (dk_at dksX4_goes_0 16 rfl rfl)
theorem dX4_goes_17 : decode cX4_goes 17 = .ok (.iload_n 1, 1) := dk_27 (dk_at dksX4_goes_0 17 rfl rfl)
theorem dX4_goes_18 : decode cX4_goes 18 = .ok (.ishl, 1) := dk_120 (dk_at dksX4_goes_0 18 rfl rfl)
theorem dX4_goes_19 : decode cX4_goes 19 = .ok (.ixor, 1) := dk_130 (dk_at dksX4_goes_0 19 rfl rfl)
theorem dX4_goes_20 : decode cX4_goes 20 = .ok (.putfield 58, 3) := dk_181 0 58 (dk_at dksX4_goes_0 20 rfl rfl)
theorem dX4_goes_23 : decode cX4_goes 23 = .ok (.iconst 1, 1) := dk_4 (dk_at dksX4_goes_0 23 rfl rfl)
theorem dX4_goes_24 : decode cX4_goes 24 = .ok (.ireturn, 1) := dk_172 (dk_at dksX4_goes_1 0 rfl rfl)
abbrev cX4_eats : ByteArray := prog_17_method_15_code
def yX4_eats : MethodName := ⟨RX4, "eats", "(II)Z"⟩
def dkwX4_eats_0 : List UInt8 := [42, 180, 0, 18, 27, 46, 28, 160, 0, 5, 3, 172, 42, 180, 0, 18, 27, 28, 79, 4, 172]
abbrev dktX4_eats_0 : List UInt8 := dkwX4_eats_0 ++ []
theorem dksX4_eats_0 : cX4_eats.data.toList.drop 0 = dktX4_eats_0 := by decide +kernel
theorem dX4_eats_0 : decode cX4_eats 0 = .ok (.aload_n 0, 1) := dk_42 (dk_at dksX4_eats_0 0 rfl rfl)
theorem dX4_eats_1 : decode cX4_eats 1 = .ok (.getfield 18, 3) := dk_180 0 18 (dk_at dksX4_eats_0 1 rfl rfl)
theorem dX4_eats_4 : decode cX4_eats 4 = .ok (.iload_n 1, 1) := dk_27 (dk_at dksX4_eats_0 4 rfl rfl)
theorem dX4_eats_5 : decode cX4_eats 5 = .ok (.iaload, 1) := dk_46 (dk_at dksX4_eats_0 5 rfl rfl)
theorem dX4_eats_6 : decode cX4_eats 6 = .ok (.iload_n 2, 1) := dk_28 (dk_at dksX4_eats_0 6 rfl rfl)
theorem dX4_eats_7 : decode cX4_eats 7 = .ok (.if_icmp .ne 5, 3) := dk_160 0 5 (dk_at dksX4_eats_0 7 rfl rfl)
theorem dX4_eats_10 : decode cX4_eats 10 = .ok (.iconst 0, 1) := dk_3 (dk_at dksX4_eats_0 10 rfl rfl)
theorem dX4_eats_11 : decode cX4_eats 11 = .ok (.ireturn, 1) := dk_172 (dk_at dksX4_eats_0 11 rfl rfl)
theorem dX4_eats_12 : decode cX4_eats 12 = .ok (.aload_n 0, 1) := dk_42 (dk_at dksX4_eats_0 12 rfl rfl)
theorem dX4_eats_13 : decode cX4_eats 13 = .ok (.getfield 18, 3) := dk_180 0 18 (dk_at dksX4_eats_0 13 rfl rfl)
theorem dX4_eats_16 : decode cX4_eats 16 = .ok (.iload_n 1, 1) := dk_27 (dk_at dksX4_eats_0 16 rfl rfl)
theorem dX4_eats_17 : decode cX4_eats 17 = .ok (.iload_n 2, 1) := dk_28 (dk_at dksX4_eats_0 17 rfl rfl)
theorem dX4_eats_18 : decode cX4_eats 18 = .ok (.iastore, 1) := dk_79 (dk_at dksX4_eats_0 18 rfl rfl)
theorem dX4_eats_19 : decode cX4_eats 19 = .ok (.iconst 1, 1) := dk_4 (dk_at dksX4_eats_0 19 rfl rfl)
theorem dX4_eats_20 : decode cX4_eats 20 = .ok (.ireturn, 1) := dk_172 (dk_at dksX4_eats_0 20 rfl rfl)
abbrev cX4_oils : ByteArray := prog_17_method_16_code
def yX4_oils : MethodName := ⟨RX4, "oils", "(I)Z"⟩
def dkwX4_oils_0 : List UInt8 := [42, 180, 0, 55, 27, 160, 0, 5, 3, 172, 42, 27, 181, 0, 55, 4, 172]
abbrev dktX4_oils_0 : List UInt8 := dkwX4_oils_0 ++ []
theorem dksX4_oils_0 : cX4_oils.data.toList.drop 0 = dktX4_oils_0 := by decide +kernel
theorem dX4_oils_0 : decode cX4_oils 0 = .ok (.aload_n 0, 1) := dk_42 (dk_at dksX4_oils_0 0 rfl rfl)
theorem dX4_oils_1 : decode cX4_oils 1 = .ok (.getfield 55, 3) := dk_180 0 55 (dk_at dksX4_oils_0 1 rfl rfl)
theorem dX4_oils_4 : decode cX4_oils 4 = .ok (.iload_n 1, 1) := dk_27 (dk_at dksX4_oils_0 4 rfl rfl)
theorem dX4_oils_5 : decode cX4_oils 5 = .ok (.if_icmp .ne 5, 3) := dk_160 0 5 (dk_at dksX4_oils_0 5 rfl rfl)
theorem dX4_oils_8 : decode cX4_oils 8 = .ok (.iconst 0, 1) := dk_3 (dk_at dksX4_oils_0 8 rfl rfl)
theorem dX4_oils_9 : decode cX4_oils 9 = .ok (.ireturn, 1) := dk_172 (dk_at dksX4_oils_0 9 rfl rfl)
theorem dX4_oils_10 : decode cX4_oils 10 = .ok (.aload_n 0, 1) := dk_42 (dk_at dksX4_oils_0 10 rfl rfl)
theorem dX4_oils_11 : decode cX4_oils 11 = .ok (.iload_n 1, 1) := dk_27 (dk_at dksX4_oils_0 11 rfl rfl)
theorem dX4_oils_12 : decode cX4_oils 12 = .ok (.putfield 55, 3) := dk_181 0 55 (dk_at dksX4_oils_0 12 rfl rfl)
theorem dX4_oils_15 : decode cX4_oils 15 = .ok (.iconst 1, 1) := dk_4 (dk_at dksX4_oils_0 15 rfl rfl)
theorem dX4_oils_16 : decode cX4_oils 16 = .ok (.ireturn, 1) := dk_172 (dk_at dksX4_oils_0 16 rfl rfl)
abbrev cX4_planes : ByteArray := prog_17_method_17_code
def yX4_planes : MethodName := ⟨RX4, "planes", "(II)Z"⟩
def dkwX4_planes_3 : List UInt8 := [167, 255, 211, 4, 172]
abbrev dktX4_planes_3 : List UInt8 := dkwX4_planes_3 ++ []
def dkwX4_planes_2 : List UInt8 := [180, 0, 24, 29, 42, 180, 0, 24, 29, 46, 42, 180, 0, 9, 27, 46, 184, 0, 131, 79, 132, 3, 1]
abbrev dktX4_planes_2 : List UInt8 := dkwX4_planes_2 ++ dktX4_planes_3
def dkwX4_planes_1 : List UInt8 := [3, 62, 29, 42, 180, 0, 43, 180, 0, 73, 162, 0, 40, 42, 180, 0, 21, 29, 46, 27, 160, 0, 24, 42]
abbrev dktX4_planes_1 : List UInt8 := dkwX4_planes_1 ++ dktX4_planes_2
def dkwX4_planes_0 : List UInt8 := [42, 180, 0, 9, 27, 46, 28, 100, 4, 162, 0, 5, 3, 172, 42, 180, 0, 9, 27, 92, 46, 28, 100, 79]
abbrev dktX4_planes_0 : List UInt8 := dkwX4_planes_0 ++ dktX4_planes_1
theorem dksX4_planes_0 : cX4_planes.data.toList.drop 0 = dktX4_planes_0 := by decide +kernel
theorem dksX4_planes_1 : cX4_planes.data.toList.drop 24 = dktX4_planes_1 := dk_seg dksX4_planes_0 24 rfl rfl
theorem dksX4_planes_2 : cX4_planes.data.toList.drop 48 = dktX4_planes_2 := dk_seg dksX4_planes_1 24 rfl rfl
theorem dksX4_planes_3 : cX4_planes.data.toList.drop 71 = dktX4_planes_3 := dk_seg dksX4_planes_2 23 rfl rfl
theorem dX4_planes_0 : decode cX4_planes 0 = .ok (.aload_n 0, 1) := dk_42 (dk_at dksX4_planes_0 0 rfl rfl)
theorem dX4_planes_1 : decode cX4_planes 1 = .ok (.getfield 9, 3) := dk_180 0 9 (dk_at dksX4_planes_0 1 rfl rfl)
theorem dX4_planes_4 : decode cX4_planes 4 = .ok (.iload_n 1, 1) := dk_27 (dk_at dksX4_planes_0 4 rfl rfl)
theorem dX4_planes_5 : decode cX4_planes 5 = .ok (.iaload, 1) := dk_46 (dk_at dksX4_planes_0 5 rfl rfl)
theorem dX4_planes_6 : decode cX4_planes 6 = .ok (.iload_n 2, 1) := dk_28 (dk_at dksX4_planes_0 6 rfl rfl)
theorem dX4_planes_7 : decode cX4_planes 7 = .ok (.isub, 1) := dk_100 (dk_at dksX4_planes_0 7 rfl rfl)
theorem dX4_planes_8 : decode cX4_planes 8 = .ok (.iconst 1, 1) := dk_4 (dk_at dksX4_planes_0 8 rfl rfl)
theorem dX4_planes_9 : decode cX4_planes 9 = .ok (.if_icmp .ge 5, 3) := dk_162 0 5 (dk_at dksX4_planes_0 9 rfl rfl)
theorem dX4_planes_12 : decode cX4_planes 12 = .ok (.iconst 0, 1) := dk_3 (dk_at dksX4_planes_0 12 rfl rfl)
theorem dX4_planes_13 : decode cX4_planes 13 = .ok (.ireturn, 1) := dk_172 (dk_at dksX4_planes_0 13 rfl rfl)
theorem dX4_planes_14 : decode cX4_planes 14 = .ok (.aload_n 0, 1) := dk_42 (dk_at dksX4_planes_0 14 rfl rfl)
theorem dX4_planes_15 : decode cX4_planes 15 = .ok (.getfield 9, 3) := dk_180 0 9 (dk_at dksX4_planes_0 15 rfl rfl)
theorem dX4_planes_18 : decode cX4_planes 18 = .ok (.iload_n 1, 1) := dk_27 (dk_at dksX4_planes_0 18 rfl rfl)
theorem dX4_planes_19 : decode cX4_planes 19 = .ok (.dup2, 1) := dk_92 (dk_at dksX4_planes_0 19 rfl rfl)
theorem dX4_planes_20 : decode cX4_planes 20 = .ok (.iaload, 1) := dk_46 (dk_at dksX4_planes_0 20 rfl rfl)
theorem dX4_planes_21 : decode cX4_planes 21 = .ok (.iload_n 2, 1) := dk_28 (dk_at dksX4_planes_0 21 rfl rfl)
theorem dX4_planes_22 : decode cX4_planes 22 = .ok (.isub, 1) := dk_100 (dk_at dksX4_planes_0 22 rfl rfl)
theorem dX4_planes_23 : decode cX4_planes 23 = .ok (.iastore, 1) := dk_79 (dk_at dksX4_planes_0 23 rfl rfl)
theorem dX4_planes_24 : decode cX4_planes 24 = .ok (.iconst 0, 1) := dk_3 (dk_at dksX4_planes_1 0 rfl rfl)
theorem dX4_planes_25 : decode cX4_planes 25 = .ok (.istore_n 3, 1) := dk_62 (dk_at dksX4_planes_1 1 rfl rfl)
theorem dX4_planes_26 : decode cX4_planes 26 = .ok (.iload_n 3, 1) := dk_29 (dk_at dksX4_planes_1 2 rfl rfl)
theorem dX4_planes_27 : decode cX4_planes 27 = .ok (.aload_n 0, 1) := dk_42 (dk_at dksX4_planes_1 3 rfl rfl)
theorem dX4_planes_28 : decode cX4_planes 28 = .ok (.getfield 43, 3) := dk_180 0 43 (dk_at dksX4_planes_1 4 rfl rfl)
theorem dX4_planes_31 : decode cX4_planes 31 = .ok (.getfield 73, 3) := dk_180 0 73 (dk_at dksX4_planes_1 7 rfl rfl)
theorem dX4_planes_34 : decode cX4_planes 34 = .ok (.if_icmp .ge 40, 3) := dk_162 0 40 (dk_at dksX4_planes_1 10 rfl rfl)
theorem dX4_planes_37 : decode cX4_planes 37 = .ok (.aload_n 0, 1) := dk_42 (dk_at dksX4_planes_1 13 rfl rfl)
theorem dX4_planes_38 : decode cX4_planes 38 = .ok (.getfield 21, 3) := dk_180 0 21 (dk_at dksX4_planes_1 14 rfl rfl)
theorem dX4_planes_41 : decode cX4_planes 41 = .ok (.iload_n 3, 1) := dk_29 (dk_at dksX4_planes_1 17 rfl rfl)
theorem dX4_planes_42 : decode cX4_planes 42 = .ok (.iaload, 1) := dk_46 (dk_at dksX4_planes_1 18 rfl rfl)
theorem dX4_planes_43 : decode cX4_planes 43 = .ok (.iload_n 1, 1) := dk_27 (dk_at dksX4_planes_1 19 rfl rfl)
theorem dX4_planes_44 : decode cX4_planes 44 = .ok (.if_icmp .ne 24, 3) := dk_160 0 24 (dk_at dksX4_planes_1 20 rfl rfl)
theorem dX4_planes_47 : decode cX4_planes 47 = .ok (.aload_n 0, 1) := dk_42 (dk_at dksX4_planes_1 23 rfl rfl)
theorem dX4_planes_48 : decode cX4_planes 48 = .ok (.getfield 24, 3) := dk_180 0 24 (dk_at dksX4_planes_2 0 rfl rfl)
theorem dX4_planes_51 : decode cX4_planes 51 = .ok (.iload_n 3, 1) := dk_29 (dk_at dksX4_planes_2 3 rfl rfl)
theorem dX4_planes_52 : decode cX4_planes 52 = .ok (.aload_n 0, 1) := dk_42 (dk_at dksX4_planes_2 4 rfl rfl)
theorem dX4_planes_53 : decode cX4_planes 53 = .ok (.getfield 24, 3) := dk_180 0 24 (dk_at dksX4_planes_2 5 rfl rfl)
theorem dX4_planes_56 : decode cX4_planes 56 = .ok (.iload_n 3, 1) := dk_29 (dk_at dksX4_planes_2 8 rfl rfl)
theorem dX4_planes_57 : decode cX4_planes 57 = .ok (.iaload, 1) := dk_46 (dk_at dksX4_planes_2 9 rfl rfl)
theorem dX4_planes_58 : decode cX4_planes 58 = .ok (.aload_n 0, 1) := dk_42 (dk_at dksX4_planes_2 10 rfl rfl)
theorem dX4_planes_59 : decode cX4_planes 59 = .ok (.getfield 9, 3) := dk_180 0 9 (dk_at dksX4_planes_2 11 rfl rfl)
theorem dX4_planes_62 : decode cX4_planes 62 = .ok (.iload_n 1, 1) := dk_27 (dk_at dksX4_planes_2 14 rfl rfl)
theorem dX4_planes_63 : decode cX4_planes 63 = .ok (.iaload, 1) := dk_46 (dk_at dksX4_planes_2 15 rfl rfl)
theorem dX4_planes_64 : decode cX4_planes 64 = .ok (.invokestatic 131, 3) := dk_184 0 131 (dk_at dksX4_planes_2 16 rfl rfl)
theorem dX4_planes_67 : decode cX4_planes 67 = .ok (.iastore, 1) := dk_79 (dk_at dksX4_planes_2 19 rfl rfl)
theorem dX4_planes_68 : decode cX4_planes 68 = .ok (.iinc 3 1, 3) := dk_132 3 1 (dk_at dksX4_planes_2 20 rfl rfl)
theorem dX4_planes_71 : decode cX4_planes 71 = .ok (.goto (-45), 3) := dk_167 255 211 (dk_at dksX4_planes_3 0 rfl rfl)
theorem dX4_planes_74 : decode cX4_planes 74 = .ok (.iconst 1, 1) := dk_4 (dk_at dksX4_planes_3 3 rfl rfl)
theorem dX4_planes_75 : decode cX4_planes 75 = .ok (.ireturn, 1) := dk_172 (dk_at dksX4_planes_3 4 rfl rfl)
abbrev cX4_famous : ByteArray := prog_17_method_21_code
def yX4_famous : MethodName := ⟨RX4, "famous", "()I"⟩
def dkwX4_famous_2 : List UInt8 := [132, 2, 1, 167, 255, 212, 27, 172]
abbrev dktX4_famous_2 : List UInt8 := dkwX4_famous_2 ++ []
def dkwX4_famous_1 : List UInt8 := [159, 0, 23, 27, 2, 159, 0, 16, 42, 28, 182, 0, 103, 42, 27, 182, 0, 103, 164, 0, 5, 28, 60]
abbrev dktX4_famous_1 : List UInt8 := dkwX4_famous_1 ++ dktX4_famous_2
def dkwX4_famous_0 : List UInt8 := [2, 60, 3, 61, 28, 42, 180, 0, 43, 180, 0, 73, 162, 0, 39, 42, 180, 0, 21, 28, 46, 2]
abbrev dktX4_famous_0 : List UInt8 := dkwX4_famous_0 ++ dktX4_famous_1
theorem dksX4_famous_0 : cX4_famous.data.toList.drop 0 = dktX4_famous_0 := by decide +kernel
theorem dksX4_famous_1 : cX4_famous.data.toList.drop 22 = dktX4_famous_1 := dk_seg dksX4_famous_0 22 rfl rfl
theorem dksX4_famous_2 : cX4_famous.data.toList.drop 45 = dktX4_famous_2 := dk_seg dksX4_famous_1 23 rfl rfl
theorem dX4_famous_0 : decode cX4_famous 0 = .ok (.iconst (-1), 1) := dk_2 (dk_at dksX4_famous_0 0 rfl rfl)
theorem dX4_famous_1 : decode cX4_famous 1 = .ok (.istore_n 1, 1) := dk_60 (dk_at dksX4_famous_0 1 rfl rfl)
theorem dX4_famous_2 : decode cX4_famous 2 = .ok (.iconst 0, 1) := dk_3 (dk_at dksX4_famous_0 2 rfl rfl)
theorem dX4_famous_3 : decode cX4_famous 3 = .ok (.istore_n 2, 1) := dk_61 (dk_at dksX4_famous_0 3 rfl rfl)
theorem dX4_famous_4 : decode cX4_famous 4 = .ok (.iload_n 2, 1) := dk_28 (dk_at dksX4_famous_0 4 rfl rfl)
theorem dX4_famous_5 : decode cX4_famous 5 = .ok (.aload_n 0, 1) := dk_42 (dk_at dksX4_famous_0 5 rfl rfl)
theorem dX4_famous_6 : decode cX4_famous 6 = .ok (.getfield 43, 3) := dk_180 0 43 (dk_at dksX4_famous_0 6 rfl rfl)
theorem dX4_famous_9 : decode cX4_famous 9 = .ok (.getfield 73, 3) := dk_180 0 73 (dk_at dksX4_famous_0 9 rfl rfl)
theorem dX4_famous_12 : decode cX4_famous 12 = .ok (.if_icmp .ge 39, 3) := dk_162 0 39 (dk_at dksX4_famous_0 12 rfl rfl)
theorem dX4_famous_15 : decode cX4_famous 15 = .ok (.aload_n 0, 1) := dk_42 (dk_at dksX4_famous_0 15 rfl rfl)
theorem dX4_famous_16 : decode cX4_famous 16 = .ok (.getfield 21, 3) := dk_180 0 21 (dk_at dksX4_famous_0 16 rfl rfl)
theorem dX4_famous_19 : decode cX4_famous 19 = .ok (.iload_n 2, 1) := dk_28 (dk_at dksX4_famous_0 19 rfl rfl)
theorem dX4_famous_20 : decode cX4_famous 20 = .ok (.iaload, 1) := dk_46 (dk_at dksX4_famous_0 20 rfl rfl)
theorem dX4_famous_21 : decode cX4_famous 21 = .ok (.iconst (-1), 1) := dk_2 (dk_at dksX4_famous_0 21 rfl rfl)
theorem dX4_famous_22 : decode cX4_famous 22 = .ok (.if_icmp .eq 23, 3) := dk_159 0 23 (dk_at dksX4_famous_1 0 rfl rfl)
theorem dX4_famous_25 : decode cX4_famous 25 = .ok (.iload_n 1, 1) := dk_27 (dk_at dksX4_famous_1 3 rfl rfl)
theorem dX4_famous_26 : decode cX4_famous 26 = .ok (.iconst (-1), 1) := dk_2 (dk_at dksX4_famous_1 4 rfl rfl)
theorem dX4_famous_27 : decode cX4_famous 27 = .ok (.if_icmp .eq 16, 3) := dk_159 0 16 (dk_at dksX4_famous_1 5 rfl rfl)
theorem dX4_famous_30 : decode cX4_famous 30 = .ok (.aload_n 0, 1) := dk_42 (dk_at dksX4_famous_1 8 rfl rfl)
theorem dX4_famous_31 : decode cX4_famous 31 = .ok (.iload_n 2, 1) := dk_28 (dk_at dksX4_famous_1 9 rfl rfl)
theorem dX4_famous_32 : decode cX4_famous 32 = .ok (.invokevirtual 103, 3) := dk_182 0 103 (dk_at dksX4_famous_1 10 rfl rfl)
theorem dX4_famous_35 : decode cX4_famous 35 = .ok (.aload_n 0, 1) := dk_42 (dk_at dksX4_famous_1 13 rfl rfl)
theorem dX4_famous_36 : decode cX4_famous 36 = .ok (.iload_n 1, 1) := dk_27 (dk_at dksX4_famous_1 14 rfl rfl)
theorem dX4_famous_37 : decode cX4_famous 37 = .ok (.invokevirtual 103, 3) := dk_182 0 103 (dk_at dksX4_famous_1 15 rfl rfl)
theorem dX4_famous_40 : decode cX4_famous 40 = .ok (.if_icmp .le 5, 3) := dk_164 0 5 (dk_at dksX4_famous_1 18 rfl rfl)
theorem dX4_famous_43 : decode cX4_famous 43 = .ok (.iload_n 2, 1) := dk_28 (dk_at dksX4_famous_1 21 rfl rfl)
theorem dX4_famous_44 : decode cX4_famous 44 = .ok (.istore_n 1, 1) := dk_60 (dk_at dksX4_famous_1 22 rfl rfl)
theorem dX4_famous_45 : decode cX4_famous 45 = .ok (.iinc 2 1, 3) := dk_132 2 1 (dk_at dksX4_famous_2 0 rfl rfl)
theorem dX4_famous_48 : decode cX4_famous 48 = .ok (.goto (-44), 3) := dk_167 255 212 (dk_at dksX4_famous_2 3 rfl rfl)
theorem dX4_famous_51 : decode cX4_famous 51 = .ok (.iload_n 1, 1) := dk_27 (dk_at dksX4_famous_2 6 rfl rfl)
theorem dX4_famous_52 : decode cX4_famous 52 = .ok (.ireturn, 1) := dk_172 (dk_at dksX4_famous_2 7 rfl rfl)
abbrev cX4_heights : ByteArray := prog_17_method_22_code
def yX4_heights : MethodName := ⟨RX4, "heights", "()I"⟩
def dkwX4_heights_1 : List UInt8 := [132, 2, 1, 167, 255, 233, 27, 172]
abbrev dktX4_heights_1 : List UInt8 := dkwX4_heights_1 ++ []
def dkwX4_heights_0 : List UInt8 := [3, 60, 3, 61, 28, 42, 180, 0, 43, 180, 0, 73, 162, 0, 18, 27, 42, 180, 0, 15, 28, 46, 96, 60]
abbrev dktX4_heights_0 : List UInt8 := dkwX4_heights_0 ++ dktX4_heights_1
theorem dksX4_heights_0 : cX4_heights.data.toList.drop 0 = dktX4_heights_0 := by decide +kernel
theorem dksX4_heights_1 : cX4_heights.data.toList.drop 24 = dktX4_heights_1 := dk_seg dksX4_heights_0 24 rfl rfl
theorem dX4_heights_0 : decode cX4_heights 0 = .ok (.iconst 0, 1) := dk_3 (dk_at dksX4_heights_0 0 rfl rfl)
theorem dX4_heights_1 : decode cX4_heights 1 = .ok (.istore_n 1, 1) := dk_60 (dk_at dksX4_heights_0 1 rfl rfl)
theorem dX4_heights_2 : decode cX4_heights 2 = .ok (.iconst 0, 1) := dk_3 (dk_at dksX4_heights_0 2 rfl rfl)
theorem dX4_heights_3 : decode cX4_heights 3 = .ok (.istore_n 2, 1) := dk_61 (dk_at dksX4_heights_0 3 rfl rfl)
theorem dX4_heights_4 : decode cX4_heights 4 = .ok (.iload_n 2, 1) := dk_28 (dk_at dksX4_heights_0 4 rfl rfl)
theorem dX4_heights_5 : decode cX4_heights 5 = .ok (.aload_n 0, 1) := dk_42 (dk_at dksX4_heights_0 5 rfl rfl)
theorem dX4_heights_6 : decode cX4_heights 6 = .ok (.getfield 43, 3) := dk_180 0 43 (dk_at dksX4_heights_0 6 rfl rfl)
theorem dX4_heights_9 : decode cX4_heights 9 = .ok (.getfield 73, 3) := dk_180 0 73 (dk_at dksX4_heights_0 9 rfl rfl)
theorem dX4_heights_12 : decode cX4_heights 12 = .ok (.if_icmp .ge 18, 3) := dk_162 0 18 (dk_at dksX4_heights_0 12 rfl rfl)
theorem dX4_heights_15 : decode cX4_heights 15 = .ok (.iload_n 1, 1) := dk_27 (dk_at dksX4_heights_0 15 rfl rfl)
theorem dX4_heights_16 : decode cX4_heights 16 = .ok (.aload_n 0, 1) := dk_42 (dk_at dksX4_heights_0 16 rfl rfl)
theorem dX4_heights_17 : decode cX4_heights 17 = .ok (.getfield 15, 3) := dk_180 0 15 (dk_at dksX4_heights_0 17 rfl rfl)
theorem dX4_heights_20 : decode cX4_heights 20 = .ok (.iload_n 2, 1) := dk_28 (dk_at dksX4_heights_0 20 rfl rfl)
theorem dX4_heights_21 : decode cX4_heights 21 = .ok (.iaload, 1) := dk_46 (dk_at dksX4_heights_0 21 rfl rfl)
theorem dX4_heights_22 : decode cX4_heights 22 = .ok (.iadd, 1) := dk_96 (dk_at dksX4_heights_0 22 rfl rfl)
theorem dX4_heights_23 : decode cX4_heights 23 = .ok (.istore_n 1, 1) := dk_60 (dk_at dksX4_heights_0 23 rfl rfl)
theorem dX4_heights_24 : decode cX4_heights 24 = .ok (.iinc 2 1, 3) := dk_132 2 1 (dk_at dksX4_heights_1 0 rfl rfl)
theorem dX4_heights_27 : decode cX4_heights 27 = .ok (.goto (-23), 3) := dk_167 255 233 (dk_at dksX4_heights_1 3 rfl rfl)
theorem dX4_heights_30 : decode cX4_heights 30 = .ok (.iload_n 1, 1) := dk_27 (dk_at dksX4_heights_1 6 rfl rfl)
theorem dX4_heights_31 : decode cX4_heights 31 = .ok (.ireturn, 1) := dk_172 (dk_at dksX4_heights_1 7 rfl rfl)
theorem q89 : (Jvm.Cond.initialized "GrowingDoor$State") ∈ lw_all := lw_g (lw_at lw_m1 4 rfl) rfl
theorem q148 : (Jvm.Cond.instantiable "GrowingDoor$State" (14 : Nat)) ∈ lw_all := lw_g (lw_at lw_m1 63 rfl) rfl
theorem q150 : (Jvm.Cond.instanceMethod ({ cls := "GrowingDoor$State", name := "<init>", desc := "(LGrowingDoor$Law;)V" } : Jvm.MethodName)) ∈ lw_all := lw_g (lw_at lw_m1 65 rfl) rfl
theorem q151 : (Jvm.Cond.code ({ cls := "GrowingDoor$State", name := "<init>", desc := "(LGrowingDoor$Law;)V" } : Jvm.MethodName) prog_17_method_1_code (2 : Nat) (Option.none : Option Jvm.ClassFile.FieldType)) ∈ lw_all := lw_g (lw_at lw_m1 66 rfl) rfl
theorem q152 : (Jvm.Cond.methodLink "GrowingDoor$State" (3 : Nat) ({ cls := "java/lang/Object", name := "<init>", desc := "()V" } : Jvm.MethodName)) ∈ lw_all := lw_g (lw_at lw_m1 67 rfl) rfl
theorem q153 : (Jvm.Cond.classLink "GrowingDoor$State" (33 : Nat) "GrowingDoor$Sight") ∈ lw_all := lw_g (lw_at lw_m1 68 rfl) rfl
theorem q155 : (Jvm.Cond.methodLinkNest "GrowingDoor$State" (35 : Nat) ({ cls := "GrowingDoor$Sight", name := "<init>", desc := "()V" } : Jvm.MethodName) "GrowingDoor") ∈ lw_tbl := lw_at lw_m1 70 rfl
theorem q161 : (Jvm.Cond.fieldLinkNest "GrowingDoor$State" (92 : Nat) "GrowingDoor$Sight" "food" "I" "GrowingDoor") ∈ lw_tbl := lw_at lw_m1 76 rfl
theorem q164 : (Jvm.Cond.fieldLinkNest "GrowingDoor$State" (94 : Nat) "GrowingDoor$Sight" "high" "I" "GrowingDoor") ∈ lw_tbl := lw_at lw_m1 79 rfl
theorem q167 : (Jvm.Cond.fieldLinkNest "GrowingDoor$State" (96 : Nat) "GrowingDoor$Sight" "kin" "I" "GrowingDoor") ∈ lw_tbl := lw_at lw_m1 82 rfl
theorem q170 : (Jvm.Cond.fieldLinkNest "GrowingDoor$State" (101 : Nat) "GrowingDoor$Sight" "rain" "I" "GrowingDoor") ∈ lw_tbl := lw_at lw_m1 85 rfl
theorem q173 : (Jvm.Cond.fieldLinkNest "GrowingDoor$State" (106 : Nat) "GrowingDoor$Sight" "gain" "I" "GrowingDoor") ∈ lw_tbl := lw_at lw_m1 88 rfl
theorem q176 : (Jvm.Cond.fieldLinkNest "GrowingDoor$State" (108 : Nat) "GrowingDoor$Sight" "month" "I" "GrowingDoor") ∈ lw_tbl := lw_at lw_m1 91 rfl
theorem q179 : (Jvm.Cond.fieldLinkNest "GrowingDoor$State" (112 : Nat) "GrowingDoor$Sight" "door" "I" "GrowingDoor") ∈ lw_tbl := lw_at lw_m1 94 rfl
theorem q182 : (Jvm.Cond.fieldLinkNest "GrowingDoor$State" (114 : Nat) "GrowingDoor$Sight" "boy" "I" "GrowingDoor") ∈ lw_tbl := lw_at lw_m1 97 rfl
theorem q202 : (Jvm.Cond.classLink "GrowingDoor$State" (40 : Nat) "GrowingDoor$School") ∈ lw_all := lw_g (lw_at lw_m1 117 rfl) rfl
theorem q204 : (Jvm.Cond.methodLink "GrowingDoor$State" (42 : Nat) ({ cls := "GrowingDoor$School", name := "<init>", desc := "()V" } : Jvm.MethodName)) ∈ lw_all := lw_g (lw_at lw_m1 119 rfl) rfl
theorem q209 : (Jvm.Cond.fieldLinkNest "GrowingDoor$State" (64 : Nat) "GrowingDoor$School" "thick" "[I" "GrowingDoor") ∈ lw_tbl := lw_at lw_m1 124 rfl
theorem q214 : (Jvm.Cond.fieldLinkNest "GrowingDoor$State" (123 : Nat) "GrowingDoor$School" "grows" "[I" "GrowingDoor") ∈ lw_tbl := lw_at lw_m1 129 rfl
theorem q217 : (Jvm.Cond.fieldLinkNest "GrowingDoor$State" (71 : Nat) "GrowingDoor$School" "high" "[I" "GrowingDoor") ∈ lw_tbl := lw_at lw_m1 132 rfl
theorem q220 : (Jvm.Cond.fieldLinkNest "GrowingDoor$State" (72 : Nat) "GrowingDoor$School" "food" "[I" "GrowingDoor") ∈ lw_tbl := lw_at lw_m1 135 rfl
theorem q224 : (Jvm.Cond.fieldLinkNest "GrowingDoor$State" (89 : Nat) "GrowingDoor$School" "kin" "[I" "GrowingDoor") ∈ lw_tbl := lw_at lw_m1 139 rfl
theorem q228 : (Jvm.Cond.fieldLinkNest "GrowingDoor$State" (86 : Nat) "GrowingDoor$School" "rain" "[I" "GrowingDoor") ∈ lw_tbl := lw_at lw_m1 143 rfl
theorem q233 : (Jvm.Cond.fieldLinkNest "GrowingDoor$State" (76 : Nat) "GrowingDoor$School" "boards" "I" "GrowingDoor") ∈ lw_tbl := lw_at lw_m1 148 rfl
theorem q237 : (Jvm.Cond.fieldLinkNest "GrowingDoor$State" (73 : Nat) "GrowingDoor$School" "boys" "I" "GrowingDoor") ∈ lw_tbl := lw_at lw_m1 152 rfl
theorem q256 : (Jvm.Cond.fieldLink "GrowingDoor$State" (9 : Nat) "GrowingDoor$State" "thick" "[I") ∈ lw_all := lw_g (lw_at lw_m1 171 rfl) rfl
theorem q258 : (Jvm.Cond.fieldLink "GrowingDoor$State" (15 : Nat) "GrowingDoor$State" "high" "[I") ∈ lw_all := lw_g (lw_at lw_m1 173 rfl) rfl
theorem q261 : (Jvm.Cond.fieldLink "GrowingDoor$State" (18 : Nat) "GrowingDoor$State" "food" "[I") ∈ lw_all := lw_g (lw_at lw_m1 176 rfl) rfl
theorem q263 : (Jvm.Cond.fieldLink "GrowingDoor$State" (21 : Nat) "GrowingDoor$State" "on" "[I") ∈ lw_all := lw_g (lw_at lw_m1 178 rfl) rfl
theorem q265 : (Jvm.Cond.fieldLink "GrowingDoor$State" (24 : Nat) "GrowingDoor$State" "above" "[I") ∈ lw_all := lw_g (lw_at lw_m1 180 rfl) rfl
theorem q266 : (Jvm.Cond.fieldLink "GrowingDoor$State" (27 : Nat) "GrowingDoor$State" "cut" "[I") ∈ lw_all := lw_g (lw_at lw_m1 181 rfl) rfl
theorem q268 : (Jvm.Cond.fieldLink "GrowingDoor$State" (30 : Nat) "GrowingDoor$State" "more" "[I") ∈ lw_all := lw_g (lw_at lw_m1 183 rfl) rfl
theorem q269 : (Jvm.Cond.fieldLink "GrowingDoor$State" (36 : Nat) "GrowingDoor$State" "sight" "LGrowingDoor$Sight;") ∈ lw_all := lw_g (lw_at lw_m1 184 rfl) rfl
theorem q270 : (Jvm.Cond.fieldLink "GrowingDoor$State" (47 : Nat) "GrowingDoor$State" "law" "LGrowingDoor$Law;") ∈ lw_all := lw_g (lw_at lw_m1 185 rfl) rfl
theorem q271 : (Jvm.Cond.fieldLink "GrowingDoor$State" (43 : Nat) "GrowingDoor$State" "school" "LGrowingDoor$School;") ∈ lw_all := lw_g (lw_at lw_m1 186 rfl) rfl
theorem q273 : (Jvm.Cond.fieldLink "GrowingDoor$State" (51 : Nat) "GrowingDoor$State" "month" "I") ∈ lw_all := lw_g (lw_at lw_m1 188 rfl) rfl
theorem q275 : (Jvm.Cond.fieldLink "GrowingDoor$State" (55 : Nat) "GrowingDoor$State" "oil" "I") ∈ lw_all := lw_g (lw_at lw_m1 190 rfl) rfl
theorem q277 : (Jvm.Cond.fieldLink "GrowingDoor$State" (58 : Nat) "GrowingDoor$State" "away" "I") ∈ lw_all := lw_g (lw_at lw_m1 192 rfl) rfl
theorem q278 : (Jvm.Cond.fieldLink "GrowingDoor$State" (61 : Nat) "GrowingDoor$State" "always" "I") ∈ lw_all := lw_g (lw_at lw_m1 193 rfl) rfl
theorem q280 : (Jvm.Cond.laysFinal "GrowingDoor$State" "GrowingDoor$State" "thick" "[I") ∈ lw_all := lw_g (lw_at lw_m1 195 rfl) rfl
theorem q281 : (Jvm.Cond.soleField "GrowingDoor$State" "thick") ∈ lw_all := lw_g (lw_at lw_m1 196 rfl) rfl
theorem q282 : (Jvm.Cond.laysFinal "GrowingDoor$State" "GrowingDoor$State" "high" "[I") ∈ lw_all := lw_g (lw_at lw_m1 197 rfl) rfl
theorem q283 : (Jvm.Cond.soleField "GrowingDoor$State" "high") ∈ lw_all := lw_g (lw_at lw_m1 198 rfl) rfl
theorem q284 : (Jvm.Cond.laysFinal "GrowingDoor$State" "GrowingDoor$State" "food" "[I") ∈ lw_all := lw_g (lw_at lw_m1 199 rfl) rfl
theorem q285 : (Jvm.Cond.soleField "GrowingDoor$State" "food") ∈ lw_all := lw_g (lw_at lw_m1 200 rfl) rfl
theorem q286 : (Jvm.Cond.laysFinal "GrowingDoor$State" "GrowingDoor$State" "on" "[I") ∈ lw_all := lw_g (lw_at lw_m1 201 rfl) rfl
theorem q287 : (Jvm.Cond.soleField "GrowingDoor$State" "on") ∈ lw_all := lw_g (lw_at lw_m1 202 rfl) rfl
theorem q288 : (Jvm.Cond.laysFinal "GrowingDoor$State" "GrowingDoor$State" "above" "[I") ∈ lw_all := lw_g (lw_at lw_m1 203 rfl) rfl
theorem q289 : (Jvm.Cond.soleField "GrowingDoor$State" "above") ∈ lw_all := lw_g (lw_at lw_m1 204 rfl) rfl
theorem q290 : (Jvm.Cond.laysFinal "GrowingDoor$State" "GrowingDoor$State" "cut" "[I") ∈ lw_all := lw_g (lw_at lw_m1 205 rfl) rfl
theorem q291 : (Jvm.Cond.soleField "GrowingDoor$State" "cut") ∈ lw_all := lw_g (lw_at lw_m1 206 rfl) rfl
theorem q292 : (Jvm.Cond.laysFinal "GrowingDoor$State" "GrowingDoor$State" "more" "[I") ∈ lw_all := lw_g (lw_at lw_m1 207 rfl) rfl
theorem q293 : (Jvm.Cond.soleField "GrowingDoor$State" "more") ∈ lw_all := lw_g (lw_at lw_m1 208 rfl) rfl
theorem q294 : (Jvm.Cond.laysFinal "GrowingDoor$State" "GrowingDoor$State" "sight" "LGrowingDoor$Sight;") ∈ lw_all := lw_g (lw_at lw_m1 209 rfl) rfl
theorem q295 : (Jvm.Cond.soleField "GrowingDoor$State" "sight") ∈ lw_all := lw_g (lw_at lw_m1 210 rfl) rfl
theorem q296 : (Jvm.Cond.laysFinal "GrowingDoor$State" "GrowingDoor$State" "law" "LGrowingDoor$Law;") ∈ lw_all := lw_g (lw_at lw_m1 211 rfl) rfl
theorem q297 : (Jvm.Cond.soleField "GrowingDoor$State" "law") ∈ lw_all := lw_g (lw_at lw_m1 212 rfl) rfl
theorem q298 : (Jvm.Cond.lays "GrowingDoor$State" "GrowingDoor$State" "school" "LGrowingDoor$School;") ∈ lw_all := lw_g (lw_at lw_m1 213 rfl) rfl
theorem q299 : (Jvm.Cond.soleField "GrowingDoor$State" "school") ∈ lw_all := lw_g (lw_at lw_m1 214 rfl) rfl
theorem q300 : (Jvm.Cond.lays "GrowingDoor$State" "GrowingDoor$State" "month" "I") ∈ lw_all := lw_g (lw_at lw_m1 215 rfl) rfl
theorem q301 : (Jvm.Cond.soleField "GrowingDoor$State" "month") ∈ lw_all := lw_g (lw_at lw_m1 216 rfl) rfl
theorem q302 : (Jvm.Cond.lays "GrowingDoor$State" "GrowingDoor$State" "oil" "I") ∈ lw_all := lw_g (lw_at lw_m1 217 rfl) rfl
theorem q303 : (Jvm.Cond.soleField "GrowingDoor$State" "oil") ∈ lw_all := lw_g (lw_at lw_m1 218 rfl) rfl
theorem q304 : (Jvm.Cond.lays "GrowingDoor$State" "GrowingDoor$State" "away" "I") ∈ lw_all := lw_g (lw_at lw_m1 219 rfl) rfl
theorem q305 : (Jvm.Cond.soleField "GrowingDoor$State" "away") ∈ lw_all := lw_g (lw_at lw_m1 220 rfl) rfl
theorem q306 : (Jvm.Cond.lays "GrowingDoor$State" "GrowingDoor$State" "always" "I") ∈ lw_all := lw_g (lw_at lw_m1 221 rfl) rfl
theorem q307 : (Jvm.Cond.soleField "GrowingDoor$State" "always") ∈ lw_all := lw_g (lw_at lw_m1 222 rfl) rfl
theorem q308 : (Jvm.Cond.superclass "GrowingDoor$State" "java/lang/Object") ∈ lw_all := lw_g (lw_at lw_m1 223 rfl) rfl
theorem q350 : (Jvm.Cond.instanceMethod ({ cls := "GrowingDoor$State", name := "begins", desc := "(LGrowingDoor$School;)V" } : Jvm.MethodName)) ∈ lw_all := lw_g (lw_at lw_m2 25 rfl) rfl
theorem q351 : (Jvm.Cond.selects "GrowingDoor$State" ({ cls := "GrowingDoor$State", name := "begins", desc := "(LGrowingDoor$School;)V" } : Jvm.MethodName) ({ cls := "GrowingDoor$State", name := "begins", desc := "(LGrowingDoor$School;)V" } : Jvm.MethodName)) ∈ lw_all := lw_g (lw_at lw_m2 26 rfl) rfl
theorem q352 : (Jvm.Cond.code ({ cls := "GrowingDoor$State", name := "begins", desc := "(LGrowingDoor$School;)V" } : Jvm.MethodName) prog_17_method_2_code (3 : Nat) (Option.none : Option Jvm.ClassFile.FieldType)) ∈ lw_all := lw_g (lw_at lw_m2 27 rfl) rfl
theorem q353 : (Jvm.Cond.methodLink "GrowingDoor$State" (65 : Nat) ({ cls := "java/lang/System", name := "arraycopy", desc := "(Ljava/lang/Object;ILjava/lang/Object;II)V" } : Jvm.MethodName)) ∈ lw_all := lw_g (lw_at lw_m2 28 rfl) rfl
theorem q448 : (Jvm.Cond.instanceMethod ({ cls := "GrowingDoor$State", name := "there", desc := "()I" } : Jvm.MethodName)) ∈ lw_all := lw_g (lw_at lw_m2 123 rfl) rfl
theorem q449 : (Jvm.Cond.selects "GrowingDoor$State" ({ cls := "GrowingDoor$State", name := "there", desc := "()I" } : Jvm.MethodName) ({ cls := "GrowingDoor$State", name := "there", desc := "()I" } : Jvm.MethodName)) ∈ lw_all := lw_g (lw_at lw_m2 124 rfl) rfl
theorem q450 : (Jvm.Cond.code ({ cls := "GrowingDoor$State", name := "there", desc := "()I" } : Jvm.MethodName) prog_17_method_5_code (1 : Nat) (Option.some Jvm.ClassFile.FieldType.int)) ∈ lw_all := lw_g (lw_at lw_m2 125 rfl) rfl
theorem q489 : (Jvm.Cond.instanceMethod ({ cls := "GrowingDoor$State", name := "as", desc := "(LGrowingDoor$State;)LGrowingDoor$State;" } : Jvm.MethodName)) ∈ lw_all := lw_g (lw_at lw_m2 164 rfl) rfl
theorem q490 : (Jvm.Cond.selects "GrowingDoor$State" ({ cls := "GrowingDoor$State", name := "as", desc := "(LGrowingDoor$State;)LGrowingDoor$State;" } : Jvm.MethodName) ({ cls := "GrowingDoor$State", name := "as", desc := "(LGrowingDoor$State;)LGrowingDoor$State;" } : Jvm.MethodName)) ∈ lw_all := lw_g (lw_at lw_m2 165 rfl) rfl
theorem q491 : (Jvm.Cond.code ({ cls := "GrowingDoor$State", name := "as", desc := "(LGrowingDoor$State;)LGrowingDoor$State;" } : Jvm.MethodName) prog_17_method_3_code (2 : Nat) (Option.some (Jvm.ClassFile.FieldType.object "GrowingDoor$State"))) ∈ lw_all := lw_g (lw_at lw_m2 166 rfl) rfl
theorem q1043 : (Jvm.Cond.instanceMethod ({ cls := "GrowingDoor$State", name := "passes", desc := "()Z" } : Jvm.MethodName)) ∈ lw_all := lw_g (lw_at lw_m4 238 rfl) rfl
theorem q1044 : (Jvm.Cond.selects "GrowingDoor$State" ({ cls := "GrowingDoor$State", name := "passes", desc := "()Z" } : Jvm.MethodName) ({ cls := "GrowingDoor$State", name := "passes", desc := "()Z" } : Jvm.MethodName)) ∈ lw_all := lw_g (lw_at lw_m4 239 rfl) rfl
theorem q1045 : (Jvm.Cond.code ({ cls := "GrowingDoor$State", name := "passes", desc := "()Z" } : Jvm.MethodName) prog_17_method_19_code (1 : Nat) (Option.some Jvm.ClassFile.FieldType.boolean)) ∈ lw_all := lw_g (lw_at lw_m5 0 rfl) rfl
theorem q1046 : (Jvm.Cond.methodLink "GrowingDoor$State" (141 : Nat) ({ cls := "GrowingDoor$State", name := "monthEnds", desc := "()V" } : Jvm.MethodName)) ∈ lw_all := lw_g (lw_at lw_m5 1 rfl) rfl
theorem q1047 : (Jvm.Cond.instanceMethod ({ cls := "GrowingDoor$State", name := "monthEnds", desc := "()V" } : Jvm.MethodName)) ∈ lw_all := lw_g (lw_at lw_m5 2 rfl) rfl
theorem q1048 : (Jvm.Cond.selects "GrowingDoor$State" ({ cls := "GrowingDoor$State", name := "monthEnds", desc := "()V" } : Jvm.MethodName) ({ cls := "GrowingDoor$State", name := "monthEnds", desc := "()V" } : Jvm.MethodName)) ∈ lw_all := lw_g (lw_at lw_m5 3 rfl) rfl
theorem q1049 : (Jvm.Cond.code ({ cls := "GrowingDoor$State", name := "monthEnds", desc := "()V" } : Jvm.MethodName) prog_17_method_20_code (2 : Nat) (Option.none : Option Jvm.ClassFile.FieldType)) ∈ lw_all := lw_g (lw_at lw_m5 4 rfl) rfl
theorem q1050 : (Jvm.Cond.methodLink "GrowingDoor$State" (144 : Nat) ({ cls := "GrowingDoor$State", name := "grows", desc := "(I)I" } : Jvm.MethodName)) ∈ lw_all := lw_g (lw_at lw_m5 5 rfl) rfl
theorem q1051 : (Jvm.Cond.instanceMethod ({ cls := "GrowingDoor$State", name := "grows", desc := "(I)I" } : Jvm.MethodName)) ∈ lw_all := lw_g (lw_at lw_m5 6 rfl) rfl
theorem q1052 : (Jvm.Cond.selects "GrowingDoor$State" ({ cls := "GrowingDoor$State", name := "grows", desc := "(I)I" } : Jvm.MethodName) ({ cls := "GrowingDoor$State", name := "grows", desc := "(I)I" } : Jvm.MethodName)) ∈ lw_all := lw_g (lw_at lw_m5 7 rfl) rfl
theorem q1053 : (Jvm.Cond.code ({ cls := "GrowingDoor$State", name := "grows", desc := "(I)I" } : Jvm.MethodName) prog_17_method_12_code (4 : Nat) (Option.some Jvm.ClassFile.FieldType.int)) ∈ lw_all := lw_g (lw_at lw_m5 8 rfl) rfl
theorem q1054 : (Jvm.Cond.methodLink "GrowingDoor$State" (98 : Nat) ({ cls := "GrowingDoor$State", name := "rain", desc := "()I" } : Jvm.MethodName)) ∈ lw_all := lw_g (lw_at lw_m5 9 rfl) rfl
theorem q1055 : (Jvm.Cond.instanceMethod ({ cls := "GrowingDoor$State", name := "rain", desc := "()I" } : Jvm.MethodName)) ∈ lw_all := lw_g (lw_at lw_m5 10 rfl) rfl
theorem q1056 : (Jvm.Cond.selects "GrowingDoor$State" ({ cls := "GrowingDoor$State", name := "rain", desc := "()I" } : Jvm.MethodName) ({ cls := "GrowingDoor$State", name := "rain", desc := "()I" } : Jvm.MethodName)) ∈ lw_all := lw_g (lw_at lw_m5 11 rfl) rfl
theorem q1057 : (Jvm.Cond.code ({ cls := "GrowingDoor$State", name := "rain", desc := "()I" } : Jvm.MethodName) prog_17_method_11_code (1 : Nat) (Option.some Jvm.ClassFile.FieldType.int)) ∈ lw_all := lw_g (lw_at lw_m5 12 rfl) rfl
theorem q1058 : (Jvm.Cond.methodLink "GrowingDoor$State" (103 : Nat) ({ cls := "GrowingDoor$State", name := "gain", desc := "(I)I" } : Jvm.MethodName)) ∈ lw_all := lw_g (lw_at lw_m5 13 rfl) rfl
theorem q1059 : (Jvm.Cond.instanceMethod ({ cls := "GrowingDoor$State", name := "gain", desc := "(I)I" } : Jvm.MethodName)) ∈ lw_all := lw_g (lw_at lw_m5 14 rfl) rfl
theorem q1060 : (Jvm.Cond.selects "GrowingDoor$State" ({ cls := "GrowingDoor$State", name := "gain", desc := "(I)I" } : Jvm.MethodName) ({ cls := "GrowingDoor$State", name := "gain", desc := "(I)I" } : Jvm.MethodName)) ∈ lw_all := lw_g (lw_at lw_m5 15 rfl) rfl
theorem q1061 : (Jvm.Cond.code ({ cls := "GrowingDoor$State", name := "gain", desc := "(I)I" } : Jvm.MethodName) prog_17_method_10_code (2 : Nat) (Option.some Jvm.ClassFile.FieldType.int)) ∈ lw_all := lw_g (lw_at lw_m5 16 rfl) rfl
theorem q1062 : (Jvm.Cond.methodLink "GrowingDoor$State" (83 : Nat) ({ cls := "GrowingDoor$State", name := "isAt", desc := "(I)I" } : Jvm.MethodName)) ∈ lw_all := lw_g (lw_at lw_m5 17 rfl) rfl
theorem q1063 : (Jvm.Cond.instanceMethod ({ cls := "GrowingDoor$State", name := "isAt", desc := "(I)I" } : Jvm.MethodName)) ∈ lw_all := lw_g (lw_at lw_m5 18 rfl) rfl
theorem q1064 : (Jvm.Cond.selects "GrowingDoor$State" ({ cls := "GrowingDoor$State", name := "isAt", desc := "(I)I" } : Jvm.MethodName) ({ cls := "GrowingDoor$State", name := "isAt", desc := "(I)I" } : Jvm.MethodName)) ∈ lw_all := lw_g (lw_at lw_m5 19 rfl) rfl
theorem q1065 : (Jvm.Cond.code ({ cls := "GrowingDoor$State", name := "isAt", desc := "(I)I" } : Jvm.MethodName) prog_17_method_9_code (2 : Nat) (Option.some Jvm.ClassFile.FieldType.int)) ∈ lw_all := lw_g (lw_at lw_m5 20 rfl) rfl
theorem q1066 : (Jvm.Cond.methodLink "GrowingDoor$State" (79 : Nat) ({ cls := "GrowingDoor$State", name := "begin", desc := "(I)I" } : Jvm.MethodName)) ∈ lw_all := lw_g (lw_at lw_m5 21 rfl) rfl
theorem q1067 : (Jvm.Cond.instanceMethod ({ cls := "GrowingDoor$State", name := "begin", desc := "(I)I" } : Jvm.MethodName)) ∈ lw_all := lw_g (lw_at lw_m5 22 rfl) rfl
theorem q1068 : (Jvm.Cond.selects "GrowingDoor$State" ({ cls := "GrowingDoor$State", name := "begin", desc := "(I)I" } : Jvm.MethodName) ({ cls := "GrowingDoor$State", name := "begin", desc := "(I)I" } : Jvm.MethodName)) ∈ lw_all := lw_g (lw_at lw_m5 23 rfl) rfl
theorem q1069 : (Jvm.Cond.code ({ cls := "GrowingDoor$State", name := "begin", desc := "(I)I" } : Jvm.MethodName) prog_17_method_6_code (4 : Nat) (Option.some Jvm.ClassFile.FieldType.int)) ∈ lw_all := lw_g (lw_at lw_m5 24 rfl) rfl
theorem q1070 : (Jvm.Cond.methodLink "GrowingDoor$State" (109 : Nat) ({ cls := "GrowingDoor$State", name := "door", desc := "()I" } : Jvm.MethodName)) ∈ lw_all := lw_g (lw_at lw_m5 25 rfl) rfl
theorem q1071 : (Jvm.Cond.instanceMethod ({ cls := "GrowingDoor$State", name := "door", desc := "()I" } : Jvm.MethodName)) ∈ lw_all := lw_g (lw_at lw_m5 26 rfl) rfl
theorem q1072 : (Jvm.Cond.selects "GrowingDoor$State" ({ cls := "GrowingDoor$State", name := "door", desc := "()I" } : Jvm.MethodName) ({ cls := "GrowingDoor$State", name := "door", desc := "()I" } : Jvm.MethodName)) ∈ lw_all := lw_g (lw_at lw_m5 27 rfl) rfl
theorem q1073 : (Jvm.Cond.code ({ cls := "GrowingDoor$State", name := "door", desc := "()I" } : Jvm.MethodName) prog_17_method_7_code (1 : Nat) (Option.some Jvm.ClassFile.FieldType.int)) ∈ lw_all := lw_g (lw_at lw_m5 28 rfl) rfl
theorem q1074 : (Jvm.Cond.methodLink "GrowingDoor$State" (117 : Nat) ({ cls := "GrowingDoor$Law", name := "grows", desc := "(LGrowingDoor$Sight;)I" } : Jvm.MethodName)) ∈ lw_all := lw_g (lw_at lw_m5 29 rfl) rfl
theorem q1110 : (Jvm.Cond.methodLink "GrowingDoor$State" (131 : Nat) ({ cls := "java/lang/Math", name := "min", desc := "(II)I" } : Jvm.MethodName)) ∈ lw_all := lw_g (lw_at lw_m5 65 rfl) rfl
theorem q1111 : (Jvm.Cond.methodLink "GrowingDoor$State" (146 : Nat) ({ cls := "GrowingDoor$State", name := "swells", desc := "(I)I" } : Jvm.MethodName)) ∈ lw_all := lw_g (lw_at lw_m5 66 rfl) rfl
theorem q1112 : (Jvm.Cond.instanceMethod ({ cls := "GrowingDoor$State", name := "swells", desc := "(I)I" } : Jvm.MethodName)) ∈ lw_all := lw_g (lw_at lw_m5 67 rfl) rfl
theorem q1113 : (Jvm.Cond.selects "GrowingDoor$State" ({ cls := "GrowingDoor$State", name := "swells", desc := "(I)I" } : Jvm.MethodName) ({ cls := "GrowingDoor$State", name := "swells", desc := "(I)I" } : Jvm.MethodName)) ∈ lw_all := lw_g (lw_at lw_m5 68 rfl) rfl
theorem q1114 : (Jvm.Cond.code ({ cls := "GrowingDoor$State", name := "swells", desc := "(I)I" } : Jvm.MethodName) prog_17_method_13_code (2 : Nat) (Option.some Jvm.ClassFile.FieldType.int)) ∈ lw_all := lw_g (lw_at lw_m5 69 rfl) rfl
theorem q1115 : (Jvm.Cond.methodLink "GrowingDoor$State" (125 : Nat) ({ cls := "java/lang/Math", name := "max", desc := "(II)I" } : Jvm.MethodName)) ∈ lw_all := lw_g (lw_at lw_m5 70 rfl) rfl
theorem q1124 : (Jvm.Cond.instanceMethod ({ cls := "GrowingDoor$State", name := "notches", desc := "(I)Z" } : Jvm.MethodName)) ∈ lw_all := lw_g (lw_at lw_m5 79 rfl) rfl
theorem q1125 : (Jvm.Cond.selects "GrowingDoor$State" ({ cls := "GrowingDoor$State", name := "notches", desc := "(I)Z" } : Jvm.MethodName) ({ cls := "GrowingDoor$State", name := "notches", desc := "(I)Z" } : Jvm.MethodName)) ∈ lw_all := lw_g (lw_at lw_m5 80 rfl) rfl
theorem q1126 : (Jvm.Cond.code ({ cls := "GrowingDoor$State", name := "notches", desc := "(I)Z" } : Jvm.MethodName) prog_17_method_14_code (2 : Nat) (Option.some Jvm.ClassFile.FieldType.boolean)) ∈ lw_all := lw_g (lw_at lw_m5 81 rfl) rfl
theorem q1127 : (Jvm.Cond.methodLink "GrowingDoor$State" (134 : Nat) ({ cls := "GrowingDoor$State", name := "isThere", desc := "(I)Z" } : Jvm.MethodName)) ∈ lw_all := lw_g (lw_at lw_m5 82 rfl) rfl
theorem q1128 : (Jvm.Cond.instanceMethod ({ cls := "GrowingDoor$State", name := "isThere", desc := "(I)Z" } : Jvm.MethodName)) ∈ lw_all := lw_g (lw_at lw_m5 83 rfl) rfl
theorem q1129 : (Jvm.Cond.selects "GrowingDoor$State" ({ cls := "GrowingDoor$State", name := "isThere", desc := "(I)Z" } : Jvm.MethodName) ({ cls := "GrowingDoor$State", name := "isThere", desc := "(I)Z" } : Jvm.MethodName)) ∈ lw_all := lw_g (lw_at lw_m5 84 rfl) rfl
theorem q1130 : (Jvm.Cond.code ({ cls := "GrowingDoor$State", name := "isThere", desc := "(I)Z" } : Jvm.MethodName) prog_17_method_4_code (2 : Nat) (Option.some Jvm.ClassFile.FieldType.boolean)) ∈ lw_all := lw_g (lw_at lw_m5 85 rfl) rfl
theorem q1131 : (Jvm.Cond.methodLink "GrowingDoor$State" (138 : Nat) ({ cls := "GrowingDoor$State", name := "lies", desc := "(I)I" } : Jvm.MethodName)) ∈ lw_all := lw_g (lw_at lw_m5 86 rfl) rfl
theorem q1132 : (Jvm.Cond.instanceMethod ({ cls := "GrowingDoor$State", name := "lies", desc := "(I)I" } : Jvm.MethodName)) ∈ lw_all := lw_g (lw_at lw_m5 87 rfl) rfl
theorem q1133 : (Jvm.Cond.selects "GrowingDoor$State" ({ cls := "GrowingDoor$State", name := "lies", desc := "(I)I" } : Jvm.MethodName) ({ cls := "GrowingDoor$State", name := "lies", desc := "(I)I" } : Jvm.MethodName)) ∈ lw_all := lw_g (lw_at lw_m5 88 rfl) rfl
theorem q1134 : (Jvm.Cond.code ({ cls := "GrowingDoor$State", name := "lies", desc := "(I)I" } : Jvm.MethodName) prog_17_method_8_code (3 : Nat) (Option.some Jvm.ClassFile.FieldType.int)) ∈ lw_all := lw_g (lw_at lw_m5 89 rfl) rfl
theorem q1136 : (Jvm.Cond.instanceMethod ({ cls := "GrowingDoor$State", name := "goes", desc := "(IZ)Z" } : Jvm.MethodName)) ∈ lw_all := lw_g (lw_at lw_m5 91 rfl) rfl
theorem q1137 : (Jvm.Cond.selects "GrowingDoor$State" ({ cls := "GrowingDoor$State", name := "goes", desc := "(IZ)Z" } : Jvm.MethodName) ({ cls := "GrowingDoor$State", name := "goes", desc := "(IZ)Z" } : Jvm.MethodName)) ∈ lw_all := lw_g (lw_at lw_m5 92 rfl) rfl
theorem q1138 : (Jvm.Cond.code ({ cls := "GrowingDoor$State", name := "goes", desc := "(IZ)Z" } : Jvm.MethodName) prog_17_method_18_code (3 : Nat) (Option.some Jvm.ClassFile.FieldType.boolean)) ∈ lw_all := lw_g (lw_at lw_m5 93 rfl) rfl
theorem q1144 : (Jvm.Cond.instanceMethod ({ cls := "GrowingDoor$State", name := "eats", desc := "(II)Z" } : Jvm.MethodName)) ∈ lw_all := lw_g (lw_at lw_m5 99 rfl) rfl
theorem q1145 : (Jvm.Cond.selects "GrowingDoor$State" ({ cls := "GrowingDoor$State", name := "eats", desc := "(II)Z" } : Jvm.MethodName) ({ cls := "GrowingDoor$State", name := "eats", desc := "(II)Z" } : Jvm.MethodName)) ∈ lw_all := lw_g (lw_at lw_m5 100 rfl) rfl
theorem q1146 : (Jvm.Cond.code ({ cls := "GrowingDoor$State", name := "eats", desc := "(II)Z" } : Jvm.MethodName) prog_17_method_15_code (3 : Nat) (Option.some Jvm.ClassFile.FieldType.boolean)) ∈ lw_all := lw_g (lw_at lw_m5 101 rfl) rfl
theorem q1148 : (Jvm.Cond.instanceMethod ({ cls := "GrowingDoor$State", name := "oils", desc := "(I)Z" } : Jvm.MethodName)) ∈ lw_all := lw_g (lw_at lw_m5 103 rfl) rfl
theorem q1149 : (Jvm.Cond.selects "GrowingDoor$State" ({ cls := "GrowingDoor$State", name := "oils", desc := "(I)Z" } : Jvm.MethodName) ({ cls := "GrowingDoor$State", name := "oils", desc := "(I)Z" } : Jvm.MethodName)) ∈ lw_all := lw_g (lw_at lw_m5 104 rfl) rfl
theorem q1150 : (Jvm.Cond.code ({ cls := "GrowingDoor$State", name := "oils", desc := "(I)Z" } : Jvm.MethodName) prog_17_method_16_code (2 : Nat) (Option.some Jvm.ClassFile.FieldType.boolean)) ∈ lw_all := lw_g (lw_at lw_m5 105 rfl) rfl
theorem q1152 : (Jvm.Cond.instanceMethod ({ cls := "GrowingDoor$State", name := "planes", desc := "(II)Z" } : Jvm.MethodName)) ∈ lw_all := lw_g (lw_at lw_m5 107 rfl) rfl
theorem q1153 : (Jvm.Cond.selects "GrowingDoor$State" ({ cls := "GrowingDoor$State", name := "planes", desc := "(II)Z" } : Jvm.MethodName) ({ cls := "GrowingDoor$State", name := "planes", desc := "(II)Z" } : Jvm.MethodName)) ∈ lw_all := lw_g (lw_at lw_m5 108 rfl) rfl
theorem q1154 : (Jvm.Cond.code ({ cls := "GrowingDoor$State", name := "planes", desc := "(II)Z" } : Jvm.MethodName) prog_17_method_17_code (4 : Nat) (Option.some Jvm.ClassFile.FieldType.boolean)) ∈ lw_all := lw_g (lw_at lw_m5 109 rfl) rfl
theorem q1180 : (Jvm.Cond.instanceMethod ({ cls := "GrowingDoor$State", name := "famous", desc := "()I" } : Jvm.MethodName)) ∈ lw_all := lw_g (lw_at lw_m5 135 rfl) rfl
theorem q1181 : (Jvm.Cond.selects "GrowingDoor$State" ({ cls := "GrowingDoor$State", name := "famous", desc := "()I" } : Jvm.MethodName) ({ cls := "GrowingDoor$State", name := "famous", desc := "()I" } : Jvm.MethodName)) ∈ lw_all := lw_g (lw_at lw_m5 136 rfl) rfl
theorem q1182 : (Jvm.Cond.code ({ cls := "GrowingDoor$State", name := "famous", desc := "()I" } : Jvm.MethodName) prog_17_method_21_code (3 : Nat) (Option.some Jvm.ClassFile.FieldType.int)) ∈ lw_all := lw_g (lw_at lw_m5 137 rfl) rfl
theorem q1259 : (Jvm.Cond.instanceMethod ({ cls := "GrowingDoor$State", name := "heights", desc := "()I" } : Jvm.MethodName)) ∈ lw_all := lw_g (lw_at lw_m5 214 rfl) rfl
theorem q1260 : (Jvm.Cond.selects "GrowingDoor$State" ({ cls := "GrowingDoor$State", name := "heights", desc := "()I" } : Jvm.MethodName) ({ cls := "GrowingDoor$State", name := "heights", desc := "()I" } : Jvm.MethodName)) ∈ lw_all := lw_g (lw_at lw_m5 215 rfl) rfl
theorem q1261 : (Jvm.Cond.code ({ cls := "GrowingDoor$State", name := "heights", desc := "()I" } : Jvm.MethodName) prog_17_method_22_code (3 : Nat) (Option.some Jvm.ClassFile.FieldType.int)) ∈ lw_all := lw_g (lw_at lw_m5 216 rfl) rfl
theorem q2057 : (Jvm.Cond.castable "GrowingDoor$State" "java/lang/Object") ∈ lw_tbl := lw_at lw_m9 52 rfl
theorem in_X4 : ∀ w ∈ wsX40, w ∈ lw_all := lw_in wsX40 [280, 282, 284, 286, 288, 290, 292, 294, 296, 298, 300, 302, 304, 306] (by decide +kernel) (by decide +kernel)
/-! GrowingDoor$Sight -/
set_option maxRecDepth 100000
def RX5 : String := "GrowingDoor$Sight"
def TX5 : u_T := fun k => match k with
  | 0 => ("GrowingDoor$Sight", "food", "I", false)
  | 1 => ("GrowingDoor$Sight", "high", "I", false)
  | 2 => ("GrowingDoor$Sight", "kin", "I", false)
  | 3 => ("GrowingDoor$Sight", "rain", "I", false)
  | 4 => ("GrowingDoor$Sight", "gain", "I", false)
  | 5 => ("GrowingDoor$Sight", "month", "I", false)
  | 6 => ("GrowingDoor$Sight", "door", "I", false)
  | _ => ("GrowingDoor$Sight", "boy", "I", false)
def tyX5 : Nat → FieldType := fun k => match k with
  | 0 => .int
  | 1 => .int
  | 2 => .int
  | 3 => .int
  | 4 => .int
  | 5 => .int
  | 6 => .int
  | _ => .int
abbrev wsX50 : List Cond := u_ws RX5 TX5 8
theorem nmX5 : ∀ a, a < 8 → ∀ b, b < 8 → a ≠ b → (TX5 a).2.1 ≠ (TX5 b).2.1 := by decide +kernel
theorem tyX5_ok : ∀ k, k < 8 → parseFieldDescriptor (TX5 k).2.2.1 = some (tyX5 k) := by decide +kernel
abbrev cX5_init : ByteArray := prog_16_method_1_code
def yX5_init : MethodName := ⟨RX5, "<init>", "()V"⟩
theorem dX5_init_0 : decode cX5_init 0 = .ok (.aload_n 0, 1) := by decide +kernel
theorem dX5_init_1 : decode cX5_init 1 = .ok (.invokespecial 1, 3) := by decide +kernel
theorem dX5_init_4 : decode cX5_init 4 = .ok (.return_, 1) := by decide +kernel
abbrev cX5_known : ByteArray := prog_16_method_2_code
def yX5_known : MethodName := ⟨RX5, "known", "(I)I"⟩
def dkwX5_known_3 : List UInt8 := [172, 42, 180, 0, 25, 172, 42, 180, 0, 28, 172, 42, 180, 0, 31, 172]
abbrev dktX5_known_3 : List UInt8 := dkwX5_known_3 ++ []
def dkwX5_known_2 : List UInt8 := [42, 180, 0, 7, 172, 42, 180, 0, 13, 172, 42, 180, 0, 16, 172, 42, 180, 0, 19, 172, 42, 180, 0, 22]
abbrev dktX5_known_2 : List UInt8 := dkwX5_known_2 ++ dktX5_known_3
def dkwX5_known_1 : List UInt8 := [170, 0, 0, 0, 0, 0, 78, 0, 0, 0, 0, 0, 0, 0, 6, 0, 0, 0, 43, 0, 0, 0, 48, 0, 0, 0, 53, 0, 0, 0, 58, 0, 0, 0, 63, 0, 0, 0, 68, 0, 0, 0, 73]
abbrev dktX5_known_1 : List UInt8 := dkwX5_known_1 ++ dktX5_known_2
def dkwX5_known_0 : List UInt8 := [27]
abbrev dktX5_known_0 : List UInt8 := dkwX5_known_0 ++ dktX5_known_1
theorem dksX5_known_0 : cX5_known.data.toList.drop 0 = dktX5_known_0 := by decide +kernel
theorem dksX5_known_1 : cX5_known.data.toList.drop 1 = dktX5_known_1 := dk_seg dksX5_known_0 1 rfl rfl
theorem dksX5_known_2 : cX5_known.data.toList.drop 44 = dktX5_known_2 := dk_seg dksX5_known_1 43 rfl rfl
theorem dksX5_known_3 : cX5_known.data.toList.drop 68 = dktX5_known_3 := dk_seg dksX5_known_2 24 rfl rfl
theorem dX5_known_0 : decode cX5_known 0 = .ok (.iload_n 1, 1) := dk_27 (dk_at dksX5_known_0 0 rfl rfl)
theorem dX5_known_1 : decode cX5_known 1 = .ok (.tableswitch 78 0 6 #[43, 48, 53, 58, 63, 68, 73], 43) := by decide +kernel
theorem dX5_known_44 : decode cX5_known 44 = .ok (.aload_n 0, 1) := dk_42 (dk_at dksX5_known_2 0 rfl rfl)
theorem dX5_known_45 : decode cX5_known 45 = .ok (.getfield 7, 3) := dk_180 0 7 (dk_at dksX5_known_2 1 rfl rfl)
theorem dX5_known_48 : decode cX5_known 48 = .ok (.ireturn, 1) := dk_172 (dk_at dksX5_known_2 4 rfl rfl)
theorem dX5_known_49 : decode cX5_known 49 = .ok (.aload_n 0, 1) := dk_42 (dk_at dksX5_known_2 5 rfl rfl)
theorem dX5_known_50 : decode cX5_known 50 = .ok (.getfield 13, 3) := dk_180 0 13 (dk_at dksX5_known_2 6 rfl rfl)
theorem dX5_known_53 : decode cX5_known 53 = .ok (.ireturn, 1) := dk_172 (dk_at dksX5_known_2 9 rfl rfl)
theorem dX5_known_54 : decode cX5_known 54 = .ok (.aload_n 0, 1) := dk_42 (dk_at dksX5_known_2 10 rfl rfl)
theorem dX5_known_55 : decode cX5_known 55 = .ok (.getfield 16, 3) := dk_180 0 16 (dk_at dksX5_known_2 11 rfl rfl)
theorem dX5_known_58 : decode cX5_known 58 = .ok (.ireturn, 1) := dk_172 (dk_at dksX5_known_2 14 rfl rfl)
theorem dX5_known_59 : decode cX5_known 59 = .ok (.aload_n 0, 1) := dk_42 (dk_at dksX5_known_2 15 rfl rfl)
theorem dX5_known_60 : decode cX5_known 60 = .ok (.getfield 19, 3) := dk_180 0 19 (dk_at dksX5_known_2 16 rfl rfl)
theorem dX5_known_63 : decode cX5_known 63 = .ok (.ireturn, 1) := dk_172 (dk_at dksX5_known_2 19 rfl rfl)
theorem dX5_known_64 : decode cX5_known 64 = .ok (.aload_n 0, 1) := dk_42 (dk_at dksX5_known_2 20 rfl rfl)
theorem dX5_known_65 : decode cX5_known 65 = .ok (.getfield 22, 3) := dk_180 0 22 (dk_at dksX5_known_2 21 rfl rfl)
theorem dX5_known_68 : decode cX5_known 68 = .ok (.ireturn, 1) := dk_172 (dk_at dksX5_known_3 0 rfl rfl)
theorem dX5_known_69 : decode cX5_known 69 = .ok (.aload_n 0, 1) := dk_42 (dk_at dksX5_known_3 1 rfl rfl)
theorem dX5_known_70 : decode cX5_known 70 = .ok (.getfield 25, 3) := dk_180 0 25 (dk_at dksX5_known_3 2 rfl rfl)
theorem dX5_known_73 : decode cX5_known 73 = .ok (.ireturn, 1) := dk_172 (dk_at dksX5_known_3 5 rfl rfl)
theorem dX5_known_74 : decode cX5_known 74 = .ok (.aload_n 0, 1) := dk_42 (dk_at dksX5_known_3 6 rfl rfl)
theorem dX5_known_75 : decode cX5_known 75 = .ok (.getfield 28, 3) := dk_180 0 28 (dk_at dksX5_known_3 7 rfl rfl)
theorem dX5_known_78 : decode cX5_known 78 = .ok (.ireturn, 1) := dk_172 (dk_at dksX5_known_3 10 rfl rfl)
theorem dX5_known_79 : decode cX5_known 79 = .ok (.aload_n 0, 1) := dk_42 (dk_at dksX5_known_3 11 rfl rfl)
theorem dX5_known_80 : decode cX5_known 80 = .ok (.getfield 31, 3) := dk_180 0 31 (dk_at dksX5_known_3 12 rfl rfl)
theorem dX5_known_83 : decode cX5_known 83 = .ok (.ireturn, 1) := dk_172 (dk_at dksX5_known_3 15 rfl rfl)
theorem q90 : (Jvm.Cond.initialized "GrowingDoor$Sight") ∈ lw_all := lw_g (lw_at lw_m1 5 rfl) rfl
theorem q154 : (Jvm.Cond.instantiable "GrowingDoor$Sight" (8 : Nat)) ∈ lw_all := lw_g (lw_at lw_m1 69 rfl) rfl
theorem q156 : (Jvm.Cond.instanceMethod ({ cls := "GrowingDoor$Sight", name := "<init>", desc := "()V" } : Jvm.MethodName)) ∈ lw_all := lw_g (lw_at lw_m1 71 rfl) rfl
theorem q157 : (Jvm.Cond.code ({ cls := "GrowingDoor$Sight", name := "<init>", desc := "()V" } : Jvm.MethodName) prog_16_method_1_code (1 : Nat) (Option.none : Option Jvm.ClassFile.FieldType)) ∈ lw_all := lw_g (lw_at lw_m1 72 rfl) rfl
theorem q158 : (Jvm.Cond.methodLink "GrowingDoor$Sight" (1 : Nat) ({ cls := "java/lang/Object", name := "<init>", desc := "()V" } : Jvm.MethodName)) ∈ lw_all := lw_g (lw_at lw_m1 73 rfl) rfl
theorem q160 : (Jvm.Cond.fieldLink "GrowingDoor$Sight" (7 : Nat) "GrowingDoor$Sight" "food" "I") ∈ lw_all := lw_g (lw_at lw_m1 75 rfl) rfl
theorem q163 : (Jvm.Cond.fieldLink "GrowingDoor$Sight" (13 : Nat) "GrowingDoor$Sight" "high" "I") ∈ lw_all := lw_g (lw_at lw_m1 78 rfl) rfl
theorem q166 : (Jvm.Cond.fieldLink "GrowingDoor$Sight" (16 : Nat) "GrowingDoor$Sight" "kin" "I") ∈ lw_all := lw_g (lw_at lw_m1 81 rfl) rfl
theorem q169 : (Jvm.Cond.fieldLink "GrowingDoor$Sight" (19 : Nat) "GrowingDoor$Sight" "rain" "I") ∈ lw_all := lw_g (lw_at lw_m1 84 rfl) rfl
theorem q172 : (Jvm.Cond.fieldLink "GrowingDoor$Sight" (22 : Nat) "GrowingDoor$Sight" "gain" "I") ∈ lw_all := lw_g (lw_at lw_m1 87 rfl) rfl
theorem q175 : (Jvm.Cond.fieldLink "GrowingDoor$Sight" (25 : Nat) "GrowingDoor$Sight" "month" "I") ∈ lw_all := lw_g (lw_at lw_m1 90 rfl) rfl
theorem q178 : (Jvm.Cond.fieldLink "GrowingDoor$Sight" (28 : Nat) "GrowingDoor$Sight" "door" "I") ∈ lw_all := lw_g (lw_at lw_m1 93 rfl) rfl
theorem q181 : (Jvm.Cond.fieldLink "GrowingDoor$Sight" (31 : Nat) "GrowingDoor$Sight" "boy" "I") ∈ lw_all := lw_g (lw_at lw_m1 96 rfl) rfl
theorem q184 : (Jvm.Cond.lays "GrowingDoor$Sight" "GrowingDoor$Sight" "food" "I") ∈ lw_all := lw_g (lw_at lw_m1 99 rfl) rfl
theorem q185 : (Jvm.Cond.soleField "GrowingDoor$Sight" "food") ∈ lw_all := lw_g (lw_at lw_m1 100 rfl) rfl
theorem q186 : (Jvm.Cond.lays "GrowingDoor$Sight" "GrowingDoor$Sight" "high" "I") ∈ lw_all := lw_g (lw_at lw_m1 101 rfl) rfl
theorem q187 : (Jvm.Cond.soleField "GrowingDoor$Sight" "high") ∈ lw_all := lw_g (lw_at lw_m1 102 rfl) rfl
theorem q188 : (Jvm.Cond.lays "GrowingDoor$Sight" "GrowingDoor$Sight" "kin" "I") ∈ lw_all := lw_g (lw_at lw_m1 103 rfl) rfl
theorem q189 : (Jvm.Cond.soleField "GrowingDoor$Sight" "kin") ∈ lw_all := lw_g (lw_at lw_m1 104 rfl) rfl
theorem q190 : (Jvm.Cond.lays "GrowingDoor$Sight" "GrowingDoor$Sight" "rain" "I") ∈ lw_all := lw_g (lw_at lw_m1 105 rfl) rfl
theorem q191 : (Jvm.Cond.soleField "GrowingDoor$Sight" "rain") ∈ lw_all := lw_g (lw_at lw_m1 106 rfl) rfl
theorem q192 : (Jvm.Cond.lays "GrowingDoor$Sight" "GrowingDoor$Sight" "gain" "I") ∈ lw_all := lw_g (lw_at lw_m1 107 rfl) rfl
theorem q193 : (Jvm.Cond.soleField "GrowingDoor$Sight" "gain") ∈ lw_all := lw_g (lw_at lw_m1 108 rfl) rfl
theorem q194 : (Jvm.Cond.lays "GrowingDoor$Sight" "GrowingDoor$Sight" "month" "I") ∈ lw_all := lw_g (lw_at lw_m1 109 rfl) rfl
theorem q195 : (Jvm.Cond.soleField "GrowingDoor$Sight" "month") ∈ lw_all := lw_g (lw_at lw_m1 110 rfl) rfl
theorem q196 : (Jvm.Cond.lays "GrowingDoor$Sight" "GrowingDoor$Sight" "door" "I") ∈ lw_all := lw_g (lw_at lw_m1 111 rfl) rfl
theorem q197 : (Jvm.Cond.soleField "GrowingDoor$Sight" "door") ∈ lw_all := lw_g (lw_at lw_m1 112 rfl) rfl
theorem q198 : (Jvm.Cond.lays "GrowingDoor$Sight" "GrowingDoor$Sight" "boy" "I") ∈ lw_all := lw_g (lw_at lw_m1 113 rfl) rfl
theorem q199 : (Jvm.Cond.soleField "GrowingDoor$Sight" "boy") ∈ lw_all := lw_g (lw_at lw_m1 114 rfl) rfl
theorem q200 : (Jvm.Cond.superclass "GrowingDoor$Sight" "java/lang/Object") ∈ lw_all := lw_g (lw_at lw_m1 115 rfl) rfl
theorem q1095 : (Jvm.Cond.instanceMethod ({ cls := "GrowingDoor$Sight", name := "known", desc := "(I)I" } : Jvm.MethodName)) ∈ lw_all := lw_g (lw_at lw_m5 50 rfl) rfl
theorem q1096 : (Jvm.Cond.selects "GrowingDoor$Sight" ({ cls := "GrowingDoor$Sight", name := "known", desc := "(I)I" } : Jvm.MethodName) ({ cls := "GrowingDoor$Sight", name := "known", desc := "(I)I" } : Jvm.MethodName)) ∈ lw_all := lw_g (lw_at lw_m5 51 rfl) rfl
theorem q1097 : (Jvm.Cond.code ({ cls := "GrowingDoor$Sight", name := "known", desc := "(I)I" } : Jvm.MethodName) prog_16_method_2_code (2 : Nat) (Option.some Jvm.ClassFile.FieldType.int)) ∈ lw_all := lw_g (lw_at lw_m5 52 rfl) rfl
theorem q2058 : (Jvm.Cond.castable "GrowingDoor$Sight" "java/lang/Object") ∈ lw_tbl := lw_at lw_m9 53 rfl
theorem in_X5 : ∀ w ∈ wsX50, w ∈ lw_all := lw_in wsX50 [184, 186, 188, 190, 192, 194, 196, 198] (by decide +kernel) (by decide +kernel)
/-! GrowingDoor$School -/
set_option maxRecDepth 100000
def RX6 : String := "GrowingDoor$School"
def TX6 : u_T := fun k => match k with
  | 0 => ("GrowingDoor$School", "thick", "[I", true)
  | 1 => ("GrowingDoor$School", "grows", "[I", true)
  | 2 => ("GrowingDoor$School", "high", "[I", true)
  | 3 => ("GrowingDoor$School", "food", "[I", true)
  | 4 => ("GrowingDoor$School", "kin", "[I", true)
  | 5 => ("GrowingDoor$School", "rain", "[I", true)
  | 6 => ("GrowingDoor$School", "boards", "I", false)
  | _ => ("GrowingDoor$School", "boys", "I", false)
def tyX6 : Nat → FieldType := fun k => match k with
  | 0 => .array .int
  | 1 => .array .int
  | 2 => .array .int
  | 3 => .array .int
  | 4 => .array .int
  | 5 => .array .int
  | 6 => .int
  | _ => .int
abbrev wsX60 : List Cond := u_ws RX6 TX6 8
theorem nmX6 : ∀ a, a < 8 → ∀ b, b < 8 → a ≠ b → (TX6 a).2.1 ≠ (TX6 b).2.1 := by decide +kernel
theorem tyX6_ok : ∀ k, k < 8 → parseFieldDescriptor (TX6 k).2.2.1 = some (tyX6 k) := by decide +kernel
abbrev cX6_init : ByteArray := prog_14_method_1_code
def yX6_init : MethodName := ⟨RX6, "<init>", "()V"⟩
def dkwX6_init_3 : List UInt8 := [167, 255, 240, 177]
abbrev dktX6_init_3 : List UInt8 := dkwX6_init_3 ++ []
def dkwX6_init_2 : List UInt8 := [188, 10, 181, 0, 27, 3, 60, 27, 16, 12, 162, 0, 16, 42, 180, 0, 27, 27, 6, 79, 132, 1, 1]
abbrev dktX6_init_2 : List UInt8 := dkwX6_init_2 ++ dktX6_init_3
def dkwX6_init_1 : List UInt8 := [188, 10, 181, 0, 18, 42, 16, 7, 188, 10, 181, 0, 21, 42, 16, 7, 188, 10, 181, 0, 24, 42, 16, 12]
abbrev dktX6_init_1 : List UInt8 := dkwX6_init_1 ++ dktX6_init_2
def dkwX6_init_0 : List UInt8 := [42, 183, 0, 3, 42, 16, 6, 188, 10, 181, 0, 9, 42, 16, 6, 188, 10, 181, 0, 15, 42, 16, 7]
abbrev dktX6_init_0 : List UInt8 := dkwX6_init_0 ++ dktX6_init_1
theorem dksX6_init_0 : cX6_init.data.toList.drop 0 = dktX6_init_0 := by decide +kernel
theorem dksX6_init_1 : cX6_init.data.toList.drop 23 = dktX6_init_1 := dk_seg dksX6_init_0 23 rfl rfl
theorem dksX6_init_2 : cX6_init.data.toList.drop 47 = dktX6_init_2 := dk_seg dksX6_init_1 24 rfl rfl
theorem dksX6_init_3 : cX6_init.data.toList.drop 70 = dktX6_init_3 := dk_seg dksX6_init_2 23 rfl rfl
theorem dX6_init_0 : decode cX6_init 0 = .ok (.aload_n 0, 1) := dk_42 (dk_at dksX6_init_0 0 rfl rfl)
theorem dX6_init_1 : decode cX6_init 1 = .ok (.invokespecial 3, 3) := dk_183 0 3 (dk_at dksX6_init_0 1 rfl rfl)
theorem dX6_init_4 : decode cX6_init 4 = .ok (.aload_n 0, 1) := dk_42 (dk_at dksX6_init_0 4 rfl rfl)
theorem dX6_init_5 : decode cX6_init 5 = .ok (.bipush 6, 2) := dk_16 6 (dk_at dksX6_init_0 5 rfl rfl)
theorem dX6_init_7 : decode cX6_init 7 = .ok (.newarray .int, 2) := dk_188_10 (dk_at dksX6_init_0 7 rfl rfl)
theorem dX6_init_9 : decode cX6_init 9 = .ok (.putfield 9, 3) := dk_181 0 9 (dk_at dksX6_init_0 9 rfl rfl)
theorem dX6_init_12 : decode cX6_init 12 = .ok (.aload_n 0, 1) := dk_42 (dk_at dksX6_init_0 12 rfl rfl)
theorem dX6_init_13 : decode cX6_init 13 = .ok (.bipush 6, 2) := dk_16 6 (dk_at dksX6_init_0 13 rfl rfl)
theorem dX6_init_15 : decode cX6_init 15 = .ok (.newarray .int, 2) := dk_188_10 (dk_at dksX6_init_0 15 rfl rfl)
theorem dX6_init_17 : decode cX6_init 17 = .ok (.putfield 15, 3) := dk_181 0 15 (dk_at dksX6_init_0 17 rfl rfl)
theorem dX6_init_20 : decode cX6_init 20 = .ok (.aload_n 0, 1) := dk_42 (dk_at dksX6_init_0 20 rfl rfl)
theorem dX6_init_21 : decode cX6_init 21 = .ok (.bipush 7, 2) := dk_16 7 (dk_at dksX6_init_0 21 rfl rfl)
theorem dX6_init_23 : decode cX6_init 23 = .ok (.newarray .int, 2) := dk_188_10 (dk_at dksX6_init_1 0 rfl rfl)
theorem dX6_init_25 : decode cX6_init 25 = .ok (.putfield 18, 3) := dk_181 0 18 (dk_at dksX6_init_1 2 rfl rfl)
theorem dX6_init_28 : decode cX6_init 28 = .ok (.aload_n 0, 1) := dk_42 (dk_at dksX6_init_1 5 rfl rfl)
theorem dX6_init_29 : decode cX6_init 29 = .ok (.bipush 7, 2) := dk_16 7 (dk_at dksX6_init_1 6 rfl rfl)
theorem dX6_init_31 : decode cX6_init 31 = .ok (.newarray .int, 2) := dk_188_10 (dk_at dksX6_init_1 8 rfl rfl)
theorem dX6_init_33 : decode cX6_init 33 = .ok (.putfield 21, 3) := dk_181 0 21 (dk_at dksX6_init_1 10 rfl rfl)
theorem dX6_init_36 : decode cX6_init 36 = .ok (.aload_n 0, 1) := dk_42 (dk_at dksX6_init_1 13 rfl rfl)
theorem dX6_init_37 : decode cX6_init 37 = .ok (.bipush 7, 2) := dk_16 7 (dk_at dksX6_init_1 14 rfl rfl)
theorem dX6_init_39 : decode cX6_init 39 = .ok (.newarray .int, 2) := dk_188_10 (dk_at dksX6_init_1 16 rfl rfl)
theorem dX6_init_41 : decode cX6_init 41 = .ok (.putfield 24, 3) := dk_181 0 24 (dk_at dksX6_init_1 18 rfl rfl)
theorem dX6_init_44 : decode cX6_init 44 = .ok (.aload_n 0, 1) := dk_42 (dk_at dksX6_init_1 21 rfl rfl)
theorem dX6_init_45 : decode cX6_init 45 = .ok (.bipush 12, 2) := dk_16 12 (dk_at dksX6_init_1 22 rfl rfl)
theorem dX6_init_47 : decode cX6_init 47 = .ok (.newarray .int, 2) := dk_188_10 (dk_at dksX6_init_2 0 rfl rfl)
theorem dX6_init_49 : decode cX6_init 49 = .ok (.putfield 27, 3) := dk_181 0 27 (dk_at dksX6_init_2 2 rfl rfl)
theorem dX6_init_52 : decode cX6_init 52 = .ok (.iconst 0, 1) := dk_3 (dk_at dksX6_init_2 5 rfl rfl)
theorem dX6_init_53 : decode cX6_init 53 = .ok (.istore_n 1, 1) := dk_60 (dk_at dksX6_init_2 6 rfl rfl)
theorem dX6_init_54 : decode cX6_init 54 = .ok (.iload_n 1, 1) := dk_27 (dk_at dksX6_init_2 7 rfl rfl)
theorem dX6_init_55 : decode cX6_init 55 = .ok (.bipush 12, 2) := dk_16 12 (dk_at dksX6_init_2 8 rfl rfl)
theorem dX6_init_57 : decode cX6_init 57 = .ok (.if_icmp .ge 16, 3) := dk_162 0 16 (dk_at dksX6_init_2 10 rfl rfl)
theorem dX6_init_60 : decode cX6_init 60 = .ok (.aload_n 0, 1) := dk_42 (dk_at dksX6_init_2 13 rfl rfl)
theorem dX6_init_61 : decode cX6_init 61 = .ok (.getfield 27, 3) := dk_180 0 27 (dk_at dksX6_init_2 14 rfl rfl)
theorem dX6_init_64 : decode cX6_init 64 = .ok (.iload_n 1, 1) := dk_27 (dk_at dksX6_init_2 17 rfl rfl)
theorem dX6_init_65 : decode cX6_init 65 = .ok (.iconst 3, 1) := dk_6 (dk_at dksX6_init_2 18 rfl rfl)
theorem dX6_init_66 : decode cX6_init 66 = .ok (.iastore, 1) := dk_79 (dk_at dksX6_init_2 19 rfl rfl)
theorem dX6_init_67 : decode cX6_init 67 = .ok (.iinc 1 1, 3) := dk_132 1 1 (dk_at dksX6_init_2 20 rfl rfl)
theorem dX6_init_70 : decode cX6_init 70 = .ok (.goto (-16), 3) := dk_167 255 240 (dk_at dksX6_init_3 0 rfl rfl)
theorem dX6_init_73 : decode cX6_init 73 = .ok (.return_, 1) := dk_177 (dk_at dksX6_init_3 3 rfl rfl)
theorem q91 : (Jvm.Cond.initialized "GrowingDoor$School") ∈ lw_all := lw_g (lw_at lw_m1 6 rfl) rfl
theorem q203 : (Jvm.Cond.instantiable "GrowingDoor$School" (8 : Nat)) ∈ lw_all := lw_g (lw_at lw_m1 118 rfl) rfl
theorem q205 : (Jvm.Cond.instanceMethod ({ cls := "GrowingDoor$School", name := "<init>", desc := "()V" } : Jvm.MethodName)) ∈ lw_all := lw_g (lw_at lw_m1 120 rfl) rfl
theorem q206 : (Jvm.Cond.code ({ cls := "GrowingDoor$School", name := "<init>", desc := "()V" } : Jvm.MethodName) prog_14_method_1_code (2 : Nat) (Option.none : Option Jvm.ClassFile.FieldType)) ∈ lw_all := lw_g (lw_at lw_m1 121 rfl) rfl
theorem q207 : (Jvm.Cond.methodLink "GrowingDoor$School" (3 : Nat) ({ cls := "java/lang/Object", name := "<init>", desc := "()V" } : Jvm.MethodName)) ∈ lw_all := lw_g (lw_at lw_m1 122 rfl) rfl
theorem q208 : (Jvm.Cond.fieldLink "GrowingDoor$School" (9 : Nat) "GrowingDoor$School" "thick" "[I") ∈ lw_all := lw_g (lw_at lw_m1 123 rfl) rfl
theorem q212 : (Jvm.Cond.fieldLink "GrowingDoor$School" (15 : Nat) "GrowingDoor$School" "grows" "[I") ∈ lw_all := lw_g (lw_at lw_m1 127 rfl) rfl
theorem q216 : (Jvm.Cond.fieldLink "GrowingDoor$School" (18 : Nat) "GrowingDoor$School" "high" "[I") ∈ lw_all := lw_g (lw_at lw_m1 131 rfl) rfl
theorem q219 : (Jvm.Cond.fieldLink "GrowingDoor$School" (21 : Nat) "GrowingDoor$School" "food" "[I") ∈ lw_all := lw_g (lw_at lw_m1 134 rfl) rfl
theorem q222 : (Jvm.Cond.fieldLink "GrowingDoor$School" (24 : Nat) "GrowingDoor$School" "kin" "[I") ∈ lw_all := lw_g (lw_at lw_m1 137 rfl) rfl
theorem q226 : (Jvm.Cond.fieldLink "GrowingDoor$School" (27 : Nat) "GrowingDoor$School" "rain" "[I") ∈ lw_all := lw_g (lw_at lw_m1 141 rfl) rfl
theorem q239 : (Jvm.Cond.laysFinal "GrowingDoor$School" "GrowingDoor$School" "thick" "[I") ∈ lw_all := lw_g (lw_at lw_m1 154 rfl) rfl
theorem q240 : (Jvm.Cond.soleField "GrowingDoor$School" "thick") ∈ lw_all := lw_g (lw_at lw_m1 155 rfl) rfl
theorem q241 : (Jvm.Cond.laysFinal "GrowingDoor$School" "GrowingDoor$School" "grows" "[I") ∈ lw_all := lw_g (lw_at lw_m1 156 rfl) rfl
theorem q242 : (Jvm.Cond.soleField "GrowingDoor$School" "grows") ∈ lw_all := lw_g (lw_at lw_m1 157 rfl) rfl
theorem q243 : (Jvm.Cond.laysFinal "GrowingDoor$School" "GrowingDoor$School" "high" "[I") ∈ lw_all := lw_g (lw_at lw_m1 158 rfl) rfl
theorem q244 : (Jvm.Cond.soleField "GrowingDoor$School" "high") ∈ lw_all := lw_g (lw_at lw_m1 159 rfl) rfl
theorem q245 : (Jvm.Cond.laysFinal "GrowingDoor$School" "GrowingDoor$School" "food" "[I") ∈ lw_all := lw_g (lw_at lw_m1 160 rfl) rfl
theorem q246 : (Jvm.Cond.soleField "GrowingDoor$School" "food") ∈ lw_all := lw_g (lw_at lw_m1 161 rfl) rfl
theorem q247 : (Jvm.Cond.laysFinal "GrowingDoor$School" "GrowingDoor$School" "kin" "[I") ∈ lw_all := lw_g (lw_at lw_m1 162 rfl) rfl
theorem q248 : (Jvm.Cond.soleField "GrowingDoor$School" "kin") ∈ lw_all := lw_g (lw_at lw_m1 163 rfl) rfl
theorem q249 : (Jvm.Cond.laysFinal "GrowingDoor$School" "GrowingDoor$School" "rain" "[I") ∈ lw_all := lw_g (lw_at lw_m1 164 rfl) rfl
theorem q250 : (Jvm.Cond.soleField "GrowingDoor$School" "rain") ∈ lw_all := lw_g (lw_at lw_m1 165 rfl) rfl
theorem q251 : (Jvm.Cond.lays "GrowingDoor$School" "GrowingDoor$School" "boards" "I") ∈ lw_all := lw_g (lw_at lw_m1 166 rfl) rfl
theorem q252 : (Jvm.Cond.soleField "GrowingDoor$School" "boards") ∈ lw_all := lw_g (lw_at lw_m1 167 rfl) rfl
theorem q253 : (Jvm.Cond.lays "GrowingDoor$School" "GrowingDoor$School" "boys" "I") ∈ lw_all := lw_g (lw_at lw_m1 168 rfl) rfl
theorem q254 : (Jvm.Cond.soleField "GrowingDoor$School" "boys") ∈ lw_all := lw_g (lw_at lw_m1 169 rfl) rfl
theorem q255 : (Jvm.Cond.superclass "GrowingDoor$School" "java/lang/Object") ∈ lw_all := lw_g (lw_at lw_m1 170 rfl) rfl
theorem q2059 : (Jvm.Cond.castable "GrowingDoor$School" "java/lang/Object") ∈ lw_tbl := lw_at lw_m9 54 rfl
theorem in_X6 : ∀ w ∈ wsX60, w ∈ lw_all := lw_in wsX60 [239, 241, 243, 245, 247, 249, 251, 253] (by decide +kernel) (by decide +kernel)
/-! GrowingDoor$Mates -/
set_option maxRecDepth 100000
def RX7 : String := "GrowingDoor$Mates"
def TX7 : u_T := fun k => match k with
  | 0 => ("GrowingDoor$Mates", "of", "[I", true)
  | 1 => ("GrowingDoor$Mates", "best", "[I", true)
  | 2 => ("GrowingDoor$Mates", "state", "LGrowingDoor$State;", false)
  | _ => ("GrowingDoor$Mates", "least", "I", false)
def tyX7 : Nat → FieldType := fun k => match k with
  | 0 => .array .int
  | 1 => .array .int
  | 2 => .object "GrowingDoor$State"
  | _ => .int
abbrev wsX70 : List Cond := u_ws RX7 TX7 4
theorem nmX7 : ∀ a, a < 4 → ∀ b, b < 4 → a ≠ b → (TX7 a).2.1 ≠ (TX7 b).2.1 := by decide +kernel
theorem tyX7_ok : ∀ k, k < 4 → parseFieldDescriptor (TX7 k).2.2.1 = some (tyX7 k) := by decide +kernel
abbrev cX7_init : ByteArray := prog_7_method_1_code
def yX7_init : MethodName := ⟨RX7, "<init>", "()V"⟩
def dkwX7_init_0 : List UInt8 := [42, 183, 0, 3, 42, 16, 7, 188, 10, 181, 0, 9, 42, 16, 7, 188, 10, 181, 0, 15, 177]
abbrev dktX7_init_0 : List UInt8 := dkwX7_init_0 ++ []
theorem dksX7_init_0 : cX7_init.data.toList.drop 0 = dktX7_init_0 := by decide +kernel
theorem dX7_init_0 : decode cX7_init 0 = .ok (.aload_n 0, 1) := dk_42 (dk_at dksX7_init_0 0 rfl rfl)
theorem dX7_init_1 : decode cX7_init 1 = .ok (.invokespecial 3, 3) := dk_183 0 3 (dk_at dksX7_init_0 1 rfl rfl)
theorem dX7_init_4 : decode cX7_init 4 = .ok (.aload_n 0, 1) := dk_42 (dk_at dksX7_init_0 4 rfl rfl)
theorem dX7_init_5 : decode cX7_init 5 = .ok (.bipush 7, 2) := dk_16 7 (dk_at dksX7_init_0 5 rfl rfl)
theorem dX7_init_7 : decode cX7_init 7 = .ok (.newarray .int, 2) := dk_188_10 (dk_at dksX7_init_0 7 rfl rfl)
theorem dX7_init_9 : decode cX7_init 9 = .ok (.putfield 9, 3) := dk_181 0 9 (dk_at dksX7_init_0 9 rfl rfl)
theorem dX7_init_12 : decode cX7_init 12 = .ok (.aload_n 0, 1) := dk_42 (dk_at dksX7_init_0 12 rfl rfl)
theorem dX7_init_13 : decode cX7_init 13 = .ok (.bipush 7, 2) := dk_16 7 (dk_at dksX7_init_0 13 rfl rfl)
theorem dX7_init_15 : decode cX7_init 15 = .ok (.newarray .int, 2) := dk_188_10 (dk_at dksX7_init_0 15 rfl rfl)
theorem dX7_init_17 : decode cX7_init 17 = .ok (.putfield 15, 3) := dk_181 0 15 (dk_at dksX7_init_0 17 rfl rfl)
theorem dX7_init_20 : decode cX7_init 20 = .ok (.return_, 1) := dk_177 (dk_at dksX7_init_0 20 rfl rfl)
abbrev cX7_finds : ByteArray := prog_7_method_2_code
def yX7_finds : MethodName := ⟨RX7, "finds", "(LGrowingDoor$State;)V"⟩
def dkwX7_finds_2 : List UInt8 := [184, 0, 32, 5, 112, 4, 160, 0, 7, 4, 167, 0, 4, 3, 3, 182, 0, 38, 177]
abbrev dktX7_finds_2 : List UInt8 := dkwX7_finds_2 ++ []
def dkwX7_finds_1 : List UInt8 := [79, 42, 180, 0, 15, 28, 2, 79, 132, 2, 1, 167, 255, 233, 42, 43, 182, 0, 26, 43, 182, 0, 26]
abbrev dktX7_finds_1 : List UInt8 := dkwX7_finds_1 ++ dktX7_finds_2
def dkwX7_finds_0 : List UInt8 := [42, 43, 181, 0, 18, 42, 2, 181, 0, 22, 3, 61, 28, 16, 7, 162, 0, 23, 42, 180, 0, 9, 28, 2]
abbrev dktX7_finds_0 : List UInt8 := dkwX7_finds_0 ++ dktX7_finds_1
theorem dksX7_finds_0 : cX7_finds.data.toList.drop 0 = dktX7_finds_0 := by decide +kernel
theorem dksX7_finds_1 : cX7_finds.data.toList.drop 24 = dktX7_finds_1 := dk_seg dksX7_finds_0 24 rfl rfl
theorem dksX7_finds_2 : cX7_finds.data.toList.drop 47 = dktX7_finds_2 := dk_seg dksX7_finds_1 23 rfl rfl
theorem dX7_finds_0 : decode cX7_finds 0 = .ok (.aload_n 0, 1) := dk_42 (dk_at dksX7_finds_0 0 rfl rfl)
theorem dX7_finds_1 : decode cX7_finds 1 = .ok (.aload_n 1, 1) := dk_43 (dk_at dksX7_finds_0 1 rfl rfl)
theorem dX7_finds_2 : decode cX7_finds 2 = .ok (.putfield 18, 3) := dk_181 0 18 (dk_at dksX7_finds_0 2 rfl rfl)
theorem dX7_finds_5 : decode cX7_finds 5 = .ok (.aload_n 0, 1) := dk_42 (dk_at dksX7_finds_0 5 rfl rfl)
theorem dX7_finds_6 : decode cX7_finds 6 = .ok (.iconst (-1), 1) := dk_2 (dk_at dksX7_finds_0 6 rfl rfl)
theorem dX7_finds_7 : decode cX7_finds 7 = .ok (.putfield 22, 3) := dk_181 0 22 (dk_at dksX7_finds_0 7 rfl rfl)
theorem dX7_finds_10 : decode cX7_finds 10 = .ok (.iconst 0, 1) := dk_3 (dk_at dksX7_finds_0 10 rfl rfl)
theorem dX7_finds_11 : decode cX7_finds 11 = .ok (.istore_n 2, 1) := dk_61 (dk_at dksX7_finds_0 11 rfl rfl)
theorem dX7_finds_12 : decode cX7_finds 12 = .ok (.iload_n 2, 1) := dk_28 (dk_at dksX7_finds_0 12 rfl rfl)
theorem dX7_finds_13 : decode cX7_finds 13 = .ok (.bipush 7, 2) := dk_16 7 (dk_at dksX7_finds_0 13 rfl rfl)
theorem dX7_finds_15 : decode cX7_finds 15 = .ok (.if_icmp .ge 23, 3) := dk_162 0 23 (dk_at dksX7_finds_0 15 rfl rfl)
theorem dX7_finds_18 : decode cX7_finds 18 = .ok (.aload_n 0, 1) := dk_42 (dk_at dksX7_finds_0 18 rfl rfl)
theorem dX7_finds_19 : decode cX7_finds 19 = .ok (.getfield 9, 3) := dk_180 0 9 (dk_at dksX7_finds_0 19 rfl rfl)
theorem dX7_finds_22 : decode cX7_finds 22 = .ok (.iload_n 2, 1) := dk_28 (dk_at dksX7_finds_0 22 rfl rfl)
theorem dX7_finds_23 : decode cX7_finds 23 = .ok (.iconst (-1), 1) := dk_2 (dk_at dksX7_finds_0 23 rfl rfl)
theorem dX7_finds_24 : decode cX7_finds 24 = .ok (.iastore, 1) := dk_79 (dk_at dksX7_finds_1 0 rfl rfl)
theorem dX7_finds_25 : decode cX7_finds 25 = .ok (.aload_n 0, 1) := dk_42 (dk_at dksX7_finds_1 1 rfl rfl)
theorem dX7_finds_26 : decode cX7_finds 26 = .ok (.getfield 15, 3) := dk_180 0 15 (dk_at dksX7_finds_1 2 rfl rfl)
theorem dX7_finds_29 : decode cX7_finds 29 = .ok (.iload_n 2, 1) := dk_28 (dk_at dksX7_finds_1 5 rfl rfl)
theorem dX7_finds_30 : decode cX7_finds 30 = .ok (.iconst (-1), 1) := dk_2 (dk_at dksX7_finds_1 6 rfl rfl)
theorem dX7_finds_31 : decode cX7_finds 31 = .ok (.iastore, 1) := dk_79 (dk_at dksX7_finds_1 7 rfl rfl)
theorem dX7_finds_32 : decode cX7_finds 32 = .ok (.iinc 2 1, 3) := dk_132 2 1 (dk_at dksX7_finds_1 8 rfl rfl)
theorem dX7_finds_35 : decode cX7_finds 35 = .ok (.goto (-23), 3) := dk_167 255 233 (dk_at dksX7_finds_1 11 rfl rfl)
theorem dX7_finds_38 : decode cX7_finds 38 = .ok (.aload_n 0, 1) := dk_42 (dk_at dksX7_finds_1 14 rfl rfl)
theorem dX7_finds_39 : decode cX7_finds 39 = .ok (.aload_n 1, 1) := dk_43 (dk_at dksX7_finds_1 15 rfl rfl)
theorem dX7_finds_40 : decode cX7_finds 40 = .ok (.invokevirtual 26, 3) := dk_182 0 26 (dk_at dksX7_finds_1 16 rfl rfl)
theorem dX7_finds_43 : decode cX7_finds 43 = .ok (.aload_n 1, 1) := dk_43 (dk_at dksX7_finds_1 19 rfl rfl)
theorem dX7_finds_44 : decode cX7_finds 44 = .ok (.invokevirtual 26, 3) := dk_182 0 26 (dk_at dksX7_finds_1 20 rfl rfl)
theorem dX7_finds_47 : decode cX7_finds 47 = .ok (.invokestatic 32, 3) := dk_184 0 32 (dk_at dksX7_finds_2 0 rfl rfl)
theorem dX7_finds_50 : decode cX7_finds 50 = .ok (.iconst 2, 1) := dk_5 (dk_at dksX7_finds_2 3 rfl rfl)
theorem dX7_finds_51 : decode cX7_finds 51 = .ok (.irem, 1) := dk_112 (dk_at dksX7_finds_2 4 rfl rfl)
theorem dX7_finds_52 : decode cX7_finds 52 = .ok (.iconst 1, 1) := dk_4 (dk_at dksX7_finds_2 5 rfl rfl)
theorem dX7_finds_53 : decode cX7_finds 53 = .ok (.if_icmp .ne 7, 3) := dk_160 0 7 (dk_at dksX7_finds_2 6 rfl rfl)
theorem dX7_finds_56 : decode cX7_finds 56 = .ok (.iconst 1, 1) := dk_4 (dk_at dksX7_finds_2 9 rfl rfl)
theorem dX7_finds_57 : decode cX7_finds 57 = .ok (.goto 4, 3) := dk_167 0 4 (dk_at dksX7_finds_2 10 rfl rfl)
theorem dX7_finds_60 : decode cX7_finds 60 = .ok (.iconst 0, 1) := dk_3 (dk_at dksX7_finds_2 13 rfl rfl)
theorem dX7_finds_61 : decode cX7_finds 61 = .ok (.iconst 0, 1) := dk_3 (dk_at dksX7_finds_2 14 rfl rfl)
theorem dX7_finds_62 : decode cX7_finds 62 = .ok (.invokevirtual 38, 3) := dk_182 0 38 (dk_at dksX7_finds_2 15 rfl rfl)
theorem dX7_finds_65 : decode cX7_finds 65 = .ok (.return_, 1) := dk_177 (dk_at dksX7_finds_2 18 rfl rfl)
abbrev cX7_tries : ByteArray := prog_7_method_3_code
def yX7_tries : MethodName := ⟨RX7, "tries", "(IZI)V"⟩
def dkwX7_tries_7 : List UInt8 := [153, 0, 11, 42, 21, 5, 3, 29, 182, 0, 38, 177]
abbrev dktX7_tries_7 : List UInt8 := dkwX7_tries_7 ++ []
def dkwX7_tries_6 : List UInt8 := [46, 100, 184, 0, 63, 96, 182, 0, 38, 132, 6, 1, 167, 255, 167, 42, 180, 0, 9, 21, 4, 2, 79, 28]
abbrev dktX7_tries_6 : List UInt8 := dkwX7_tries_6 ++ dktX7_tries_7
def dkwX7_tries_5 : List UInt8 := [2, 130, 126, 28, 29, 42, 180, 0, 18, 180, 0, 60, 21, 4, 46, 42, 180, 0, 18, 180, 0, 60, 21, 6]
abbrev dktX7_tries_5 : List UInt8 := dkwX7_tries_5 ++ dktX7_tries_6
def dkwX7_tries_4 : List UInt8 := [180, 0, 9, 21, 4, 21, 6, 79, 42, 180, 0, 9, 21, 6, 21, 4, 79, 42, 21, 5, 4, 21, 6, 120]
abbrev dktX7_tries_4 : List UInt8 := dkwX7_tries_4 ++ dktX7_tries_5
def dkwX7_tries_3 : List UInt8 := [180, 0, 51, 180, 0, 55, 162, 0, 80, 21, 5, 21, 6, 122, 4, 126, 154, 0, 6, 167, 0, 61, 42]
abbrev dktX7_tries_3 : List UInt8 := dkwX7_tries_3 ++ dktX7_tries_4
def dkwX7_tries_2 : List UInt8 := [54, 4, 27, 4, 21, 4, 120, 2, 130, 126, 54, 5, 21, 4, 4, 96, 54, 6, 21, 6, 42, 180, 0, 18]
abbrev dktX7_tries_2 : List UInt8 := dkwX7_tries_2 ++ dktX7_tries_3
def dkwX7_tries_1 : List UInt8 := [181, 0, 22, 42, 180, 0, 9, 3, 42, 180, 0, 15, 3, 16, 7, 184, 0, 42, 177, 27, 184, 0, 48]
abbrev dktX7_tries_1 : List UInt8 := dkwX7_tries_1 ++ dktX7_tries_2
def dkwX7_tries_0 : List UInt8 := [42, 180, 0, 22, 2, 159, 0, 12, 29, 42, 180, 0, 22, 161, 0, 4, 177, 27, 154, 0, 24, 42, 29]
abbrev dktX7_tries_0 : List UInt8 := dkwX7_tries_0 ++ dktX7_tries_1
theorem dksX7_tries_0 : cX7_tries.data.toList.drop 0 = dktX7_tries_0 := by decide +kernel
theorem dksX7_tries_1 : cX7_tries.data.toList.drop 23 = dktX7_tries_1 := dk_seg dksX7_tries_0 23 rfl rfl
theorem dksX7_tries_2 : cX7_tries.data.toList.drop 46 = dktX7_tries_2 := dk_seg dksX7_tries_1 23 rfl rfl
theorem dksX7_tries_3 : cX7_tries.data.toList.drop 70 = dktX7_tries_3 := dk_seg dksX7_tries_2 24 rfl rfl
theorem dksX7_tries_4 : cX7_tries.data.toList.drop 93 = dktX7_tries_4 := dk_seg dksX7_tries_3 23 rfl rfl
theorem dksX7_tries_5 : cX7_tries.data.toList.drop 117 = dktX7_tries_5 := dk_seg dksX7_tries_4 24 rfl rfl
theorem dksX7_tries_6 : cX7_tries.data.toList.drop 141 = dktX7_tries_6 := dk_seg dksX7_tries_5 24 rfl rfl
theorem dksX7_tries_7 : cX7_tries.data.toList.drop 165 = dktX7_tries_7 := dk_seg dksX7_tries_6 24 rfl rfl
theorem dX7_tries_0 : decode cX7_tries 0 = .ok (.aload_n 0, 1) := dk_42 (dk_at dksX7_tries_0 0 rfl rfl)
theorem dX7_tries_1 : decode cX7_tries 1 = .ok (.getfield 22, 3) := dk_180 0 22 (dk_at dksX7_tries_0 1 rfl rfl)
theorem dX7_tries_4 : decode cX7_tries 4 = .ok (.iconst (-1), 1) := dk_2 (dk_at dksX7_tries_0 4 rfl rfl)
theorem dX7_tries_5 : decode cX7_tries 5 = .ok (.if_icmp .eq 12, 3) := dk_159 0 12 (dk_at dksX7_tries_0 5 rfl rfl)
theorem dX7_tries_8 : decode cX7_tries 8 = .ok (.iload_n 3, 1) := dk_29 (dk_at dksX7_tries_0 8 rfl rfl)
theorem dX7_tries_9 : decode cX7_tries 9 = .ok (.aload_n 0, 1) := dk_42 (dk_at dksX7_tries_0 9 rfl rfl)
theorem dX7_tries_10 : decode cX7_tries 10 = .ok (.getfield 22, 3) := dk_180 0 22 (dk_at dksX7_tries_0 10 rfl rfl)
theorem dX7_tries_13 : decode cX7_tries 13 = .ok (.if_icmp .lt 4, 3) := dk_161 0 4 (dk_at dksX7_tries_0 13 rfl rfl)
theorem dX7_tries_16 : decode cX7_tries 16 = .ok (.return_, 1) := dk_177 (dk_at dksX7_tries_0 16 rfl rfl)
theorem dX7_tries_17 : decode cX7_tries 17 = .ok (.iload_n 1, 1) := dk_27 (dk_at dksX7_tries_0 17 rfl rfl)
theorem dX7_tries_18 : decode cX7_tries 18 = .ok (.ifCond .ne 24, 3) := dk_154 0 24 (dk_at dksX7_tries_0 18 rfl rfl)
theorem dX7_tries_21 : decode cX7_tries 21 = .ok (.aload_n 0, 1) := dk_42 (dk_at dksX7_tries_0 21 rfl rfl)
theorem dX7_tries_22 : decode cX7_tries 22 = .ok (.iload_n 3, 1) := dk_29 (dk_at dksX7_tries_0 22 rfl rfl)
theorem dX7_tries_23 : decode cX7_tries 23 = .ok (.putfield 22, 3) := dk_181 0 22 (dk_at dksX7_tries_1 0 rfl rfl)
theorem dX7_tries_26 : decode cX7_tries 26 = .ok (.aload_n 0, 1) := dk_42 (dk_at dksX7_tries_1 3 rfl rfl)
theorem dX7_tries_27 : decode cX7_tries 27 = .ok (.getfield 9, 3) := dk_180 0 9 (dk_at dksX7_tries_1 4 rfl rfl)
theorem dX7_tries_30 : decode cX7_tries 30 = .ok (.iconst 0, 1) := dk_3 (dk_at dksX7_tries_1 7 rfl rfl)
theorem dX7_tries_31 : decode cX7_tries 31 = .ok (.aload_n 0, 1) := dk_42 (dk_at dksX7_tries_1 8 rfl rfl)
theorem dX7_tries_32 : decode cX7_tries 32 = .ok (.getfield 15, 3) := dk_180 0 15 (dk_at dksX7_tries_1 9 rfl rfl)
theorem dX7_tries_35 : decode cX7_tries 35 = .ok (.iconst 0, 1) := dk_3 (dk_at dksX7_tries_1 12 rfl rfl)
theorem dX7_tries_36 : decode cX7_tries 36 = .ok (.bipush 7, 2) := dk_16 7 (dk_at dksX7_tries_1 13 rfl rfl)
theorem dX7_tries_38 : decode cX7_tries 38 = .ok (.invokestatic 42, 3) := dk_184 0 42 (dk_at dksX7_tries_1 15 rfl rfl)
theorem dX7_tries_41 : decode cX7_tries 41 = .ok (.return_, 1) := dk_177 (dk_at dksX7_tries_1 18 rfl rfl)
theorem dX7_tries_42 : decode cX7_tries 42 = .ok (.iload_n 1, 1) := dk_27 (dk_at dksX7_tries_1 19 rfl rfl)
theorem dX7_tries_43 : decode cX7_tries 43 = .ok (.invokestatic 48, 3) := dk_184 0 48 (dk_at dksX7_tries_1 20 rfl rfl)
theorem dX7_tries_46 : decode cX7_tries 46 = .ok (.istore 4, 2) := dk_54 4 (dk_at dksX7_tries_2 0 rfl rfl)
theorem dX7_tries_48 : decode cX7_tries 48 = .ok (.iload_n 1, 1) := dk_27 (dk_at dksX7_tries_2 2 rfl rfl)
theorem dX7_tries_49 : decode cX7_tries 49 = .ok (.iconst 1, 1) := dk_4 (dk_at dksX7_tries_2 3 rfl rfl)
theorem dX7_tries_50 : decode cX7_tries 50 = .ok (.iload 4, 2) := dk_21 4 (dk_at dksX7_tries_2 4 rfl rfl)
theorem dX7_tries_52 : decode cX7_tries 52 = .ok (.ishl, 1) := dk_120 (dk_at dksX7_tries_2 6 rfl rfl)
theorem dX7_tries_53 : decode cX7_tries 53 = .ok (.iconst (-1), 1) := dk_2 (dk_at dksX7_tries_2 7 rfl rfl)
theorem dX7_tries_54 : decode cX7_tries 54 = .ok (.ixor, 1) := dk_130 (dk_at dksX7_tries_2 8 rfl rfl)
theorem dX7_tries_55 : decode cX7_tries 55 = .ok (.iand, 1) := dk_126 (dk_at dksX7_tries_2 9 rfl rfl)
theorem dX7_tries_56 : decode cX7_tries 56 = .ok (.istore 5, 2) := dk_54 5 (dk_at dksX7_tries_2 10 rfl rfl)
theorem dX7_tries_58 : decode cX7_tries 58 = .ok (.iload 4, 2) := dk_21 4 (dk_at dksX7_tries_2 12 rfl rfl)
theorem dX7_tries_60 : decode cX7_tries 60 = .ok (.iconst 1, 1) := dk_4 (dk_at dksX7_tries_2 14 rfl rfl)
theorem dX7_tries_61 : decode cX7_tries 61 = .ok (.iadd, 1) := dk_96 (dk_at dksX7_tries_2 15 rfl rfl)
theorem dX7_tries_62 : decode cX7_tries 62 = .ok (.istore 6, 2) := dk_54 6 (dk_at dksX7_tries_2 16 rfl rfl)
theorem dX7_tries_64 : decode cX7_tries 64 = .ok (.iload 6, 2) := dk_21 6 (dk_at dksX7_tries_2 18 rfl rfl)
theorem dX7_tries_66 : decode cX7_tries 66 = .ok (.aload_n 0, 1) := dk_42 (dk_at dksX7_tries_2 20 rfl rfl)
theorem dX7_tries_67 : decode cX7_tries 67 = .ok (.getfield 18, 3) := dk_180 0 18 (dk_at dksX7_tries_2 21 rfl rfl)
theorem dX7_tries_70 : decode cX7_tries 70 = .ok (.getfield 51, 3) := dk_180 0 51 (dk_at dksX7_tries_3 0 rfl rfl)
theorem dX7_tries_73 : decode cX7_tries 73 = .ok (.getfield 55, 3) := dk_180 0 55 (dk_at dksX7_tries_3 3 rfl rfl)
theorem dX7_tries_76 : decode cX7_tries 76 = .ok (.if_icmp .ge 80, 3) := dk_162 0 80 (dk_at dksX7_tries_3 6 rfl rfl)
theorem dX7_tries_79 : decode cX7_tries 79 = .ok (.iload 5, 2) := dk_21 5 (dk_at dksX7_tries_3 9 rfl rfl)
theorem dX7_tries_81 : decode cX7_tries 81 = .ok (.iload 6, 2) := dk_21 6 (dk_at dksX7_tries_3 11 rfl rfl)
theorem dX7_tries_83 : decode cX7_tries 83 = .ok (.ishr, 1) := dk_122 (dk_at dksX7_tries_3 13 rfl rfl)
theorem dX7_tries_84 : decode cX7_tries 84 = .ok (.iconst 1, 1) := dk_4 (dk_at dksX7_tries_3 14 rfl rfl)
theorem dX7_tries_85 : decode cX7_tries 85 = .ok (.iand, 1) := dk_126 (dk_at dksX7_tries_3 15 rfl rfl)
theorem dX7_tries_86 : decode cX7_tries 86 = .ok (.ifCond .ne 6, 3) := dk_154 0 6 (dk_at dksX7_tries_3 16 rfl rfl)
theorem dX7_tries_89 : decode cX7_tries 89 = .ok (.goto 61, 3) := dk_167 0 61 (dk_at dksX7_tries_3 19 rfl rfl)
theorem dX7_tries_92 : decode cX7_tries 92 = .ok (.aload_n 0, 1) := dk_42 (dk_at dksX7_tries_3 22 rfl rfl)
theorem dX7_tries_93 : decode cX7_tries 93 = .ok (.getfield 9, 3) := dk_180 0 9 (dk_at dksX7_tries_4 0 rfl rfl)
theorem dX7_tries_96 : decode cX7_tries 96 = .ok (.iload 4, 2) := dk_21 4 (dk_at dksX7_tries_4 3 rfl rfl)
theorem dX7_tries_98 : decode cX7_tries 98 = .ok (.iload 6, 2) := dk_21 6 (dk_at dksX7_tries_4 5 rfl rfl)
theorem dX7_tries_100 : decode cX7_tries 100 = .ok (.iastore, 1) := dk_79 (dk_at dksX7_tries_4 7 rfl rfl)
theorem dX7_tries_101 : decode cX7_tries 101 = .ok (.aload_n 0, 1) := dk_42 (dk_at dksX7_tries_4 8 rfl rfl)
theorem dX7_tries_102 : decode cX7_tries 102 = .ok (.getfield 9, 3) := dk_180 0 9 (dk_at dksX7_tries_4 9 rfl rfl)
theorem dX7_tries_105 : decode cX7_tries 105 = .ok (.iload 6, 2) := dk_21 6 (dk_at dksX7_tries_4 12 rfl rfl)
theorem dX7_tries_107 : decode cX7_tries 107 = .ok (.iload 4, 2) := dk_21 4 (dk_at dksX7_tries_4 14 rfl rfl)
theorem dX7_tries_109 : decode cX7_tries 109 = .ok (.iastore, 1) := dk_79 (dk_at dksX7_tries_4 16 rfl rfl)
theorem dX7_tries_110 : decode cX7_tries 110 = .ok (.aload_n 0, 1) := dk_42 (dk_at dksX7_tries_4 17 rfl rfl)
theorem dX7_tries_111 : decode cX7_tries 111 = .ok (.iload 5, 2) := dk_21 5 (dk_at dksX7_tries_4 18 rfl rfl)
theorem dX7_tries_113 : decode cX7_tries 113 = .ok (.iconst 1, 1) := dk_4 (dk_at dksX7_tries_4 20 rfl rfl)
theorem dX7_tries_114 : decode cX7_tries 114 = .ok (.iload 6, 2) := dk_21 6 (dk_at dksX7_tries_4 21 rfl rfl)
theorem dX7_tries_116 : decode cX7_tries 116 = .ok (.ishl, 1) := dk_120 (dk_at dksX7_tries_4 23 rfl rfl)
theorem dX7_tries_117 : decode cX7_tries 117 = .ok (.iconst (-1), 1) := dk_2 (dk_at dksX7_tries_5 0 rfl rfl)
theorem dX7_tries_118 : decode cX7_tries 118 = .ok (.ixor, 1) := dk_130 (dk_at dksX7_tries_5 1 rfl rfl)
theorem dX7_tries_119 : decode cX7_tries 119 = .ok (.iand, 1) := dk_126 (dk_at dksX7_tries_5 2 rfl rfl)
theorem dX7_tries_120 : decode cX7_tries 120 = .ok (.iload_n 2, 1) := dk_28 (dk_at dksX7_tries_5 3 rfl rfl)
theorem dX7_tries_121 : decode cX7_tries 121 = .ok (.iload_n 3, 1) := dk_29 (dk_at dksX7_tries_5 4 rfl rfl)
theorem dX7_tries_122 : decode cX7_tries 122 = .ok (.aload_n 0, 1) := dk_42 (dk_at dksX7_tries_5 5 rfl rfl)
theorem dX7_tries_123 : decode cX7_tries 123 = .ok (.getfield 18, 3) := dk_180 0 18 (dk_at dksX7_tries_5 6 rfl rfl)
theorem dX7_tries_126 : decode cX7_tries 126 = .ok (.getfield 60, 3) := dk_180 0 60 (dk_at dksX7_tries_5 9 rfl rfl)
theorem dX7_tries_129 : decode cX7_tries 129 = .ok (.iload 4, 2) := dk_21 4 (dk_at dksX7_tries_5 12 rfl rfl)
theorem dX7_tries_131 : decode cX7_tries 131 = .ok (.iaload, 1) := dk_46 (dk_at dksX7_tries_5 14 rfl rfl)
theorem dX7_tries_132 : decode cX7_tries 132 = .ok (.aload_n 0, 1) := dk_42 (dk_at dksX7_tries_5 15 rfl rfl)
theorem dX7_tries_133 : decode cX7_tries 133 = .ok (.getfield 18, 3) := dk_180 0 18 (dk_at dksX7_tries_5 16 rfl rfl)
theorem dX7_tries_136 : decode cX7_tries 136 = .ok (.getfield 60, 3) := dk_180 0 60 (dk_at dksX7_tries_5 19 rfl rfl)
theorem dX7_tries_139 : decode cX7_tries 139 = .ok (.iload 6, 2) := dk_21 6 (dk_at dksX7_tries_5 22 rfl rfl)
theorem dX7_tries_141 : decode cX7_tries 141 = .ok (.iaload, 1) := dk_46 (dk_at dksX7_tries_6 0 rfl rfl)
theorem dX7_tries_142 : decode cX7_tries 142 = .ok (.isub, 1) := dk_100 (dk_at dksX7_tries_6 1 rfl rfl)
theorem dX7_tries_143 : decode cX7_tries 143 = .ok (.invokestatic 63, 3) := dk_184 0 63 (dk_at dksX7_tries_6 2 rfl rfl)
theorem dX7_tries_146 : decode cX7_tries 146 = .ok (.iadd, 1) := dk_96 (dk_at dksX7_tries_6 5 rfl rfl)
theorem dX7_tries_147 : decode cX7_tries 147 = .ok (.invokevirtual 38, 3) := dk_182 0 38 (dk_at dksX7_tries_6 6 rfl rfl)
theorem dX7_tries_150 : decode cX7_tries 150 = .ok (.iinc 6 1, 3) := dk_132 6 1 (dk_at dksX7_tries_6 9 rfl rfl)
theorem dX7_tries_153 : decode cX7_tries 153 = .ok (.goto (-89), 3) := dk_167 255 167 (dk_at dksX7_tries_6 12 rfl rfl)
theorem dX7_tries_156 : decode cX7_tries 156 = .ok (.aload_n 0, 1) := dk_42 (dk_at dksX7_tries_6 15 rfl rfl)
theorem dX7_tries_157 : decode cX7_tries 157 = .ok (.getfield 9, 3) := dk_180 0 9 (dk_at dksX7_tries_6 16 rfl rfl)
theorem dX7_tries_160 : decode cX7_tries 160 = .ok (.iload 4, 2) := dk_21 4 (dk_at dksX7_tries_6 19 rfl rfl)
theorem dX7_tries_162 : decode cX7_tries 162 = .ok (.iconst (-1), 1) := dk_2 (dk_at dksX7_tries_6 21 rfl rfl)
theorem dX7_tries_163 : decode cX7_tries 163 = .ok (.iastore, 1) := dk_79 (dk_at dksX7_tries_6 22 rfl rfl)
theorem dX7_tries_164 : decode cX7_tries 164 = .ok (.iload_n 2, 1) := dk_28 (dk_at dksX7_tries_6 23 rfl rfl)
theorem dX7_tries_165 : decode cX7_tries 165 = .ok (.ifCond .eq 11, 3) := dk_153 0 11 (dk_at dksX7_tries_7 0 rfl rfl)
theorem dX7_tries_168 : decode cX7_tries 168 = .ok (.aload_n 0, 1) := dk_42 (dk_at dksX7_tries_7 3 rfl rfl)
theorem dX7_tries_169 : decode cX7_tries 169 = .ok (.iload 5, 2) := dk_21 5 (dk_at dksX7_tries_7 4 rfl rfl)
theorem dX7_tries_171 : decode cX7_tries 171 = .ok (.iconst 0, 1) := dk_3 (dk_at dksX7_tries_7 6 rfl rfl)
theorem dX7_tries_172 : decode cX7_tries 172 = .ok (.iload_n 3, 1) := dk_29 (dk_at dksX7_tries_7 7 rfl rfl)
theorem dX7_tries_173 : decode cX7_tries 173 = .ok (.invokevirtual 38, 3) := dk_182 0 38 (dk_at dksX7_tries_7 8 rfl rfl)
theorem dX7_tries_176 : decode cX7_tries 176 = .ok (.return_, 1) := dk_177 (dk_at dksX7_tries_7 11 rfl rfl)
theorem q92 : (Jvm.Cond.initialized "GrowingDoor$Mates") ∈ lw_all := lw_g (lw_at lw_m1 7 rfl) rfl
theorem q236 : (Jvm.Cond.fieldLinkNest "GrowingDoor$Mates" (55 : Nat) "GrowingDoor$School" "boys" "I" "GrowingDoor") ∈ lw_tbl := lw_at lw_m1 151 rfl
theorem q259 : (Jvm.Cond.fieldLinkNest "GrowingDoor$Mates" (60 : Nat) "GrowingDoor$State" "high" "[I" "GrowingDoor") ∈ lw_tbl := lw_at lw_m1 174 rfl
theorem q272 : (Jvm.Cond.fieldLinkNest "GrowingDoor$Mates" (51 : Nat) "GrowingDoor$State" "school" "LGrowingDoor$School;" "GrowingDoor") ∈ lw_tbl := lw_at lw_m1 187 rfl
theorem q321 : (Jvm.Cond.instantiable "GrowingDoor$Mates" (4 : Nat)) ∈ lw_all := lw_g (lw_at lw_m1 236 rfl) rfl
theorem q323 : (Jvm.Cond.instanceMethod ({ cls := "GrowingDoor$Mates", name := "<init>", desc := "()V" } : Jvm.MethodName)) ∈ lw_all := lw_g (lw_at lw_m1 238 rfl) rfl
theorem q324 : (Jvm.Cond.code ({ cls := "GrowingDoor$Mates", name := "<init>", desc := "()V" } : Jvm.MethodName) prog_7_method_1_code (1 : Nat) (Option.none : Option Jvm.ClassFile.FieldType)) ∈ lw_all := lw_g (lw_at lw_m1 239 rfl) rfl
theorem q325 : (Jvm.Cond.methodLink "GrowingDoor$Mates" (3 : Nat) ({ cls := "java/lang/Object", name := "<init>", desc := "()V" } : Jvm.MethodName)) ∈ lw_all := lw_g (lw_at lw_m2 0 rfl) rfl
theorem q326 : (Jvm.Cond.fieldLink "GrowingDoor$Mates" (9 : Nat) "GrowingDoor$Mates" "of" "[I") ∈ lw_all := lw_g (lw_at lw_m2 1 rfl) rfl
theorem q327 : (Jvm.Cond.fieldLink "GrowingDoor$Mates" (15 : Nat) "GrowingDoor$Mates" "best" "[I") ∈ lw_all := lw_g (lw_at lw_m2 2 rfl) rfl
theorem q329 : (Jvm.Cond.fieldLink "GrowingDoor$Mates" (18 : Nat) "GrowingDoor$Mates" "state" "LGrowingDoor$State;") ∈ lw_all := lw_g (lw_at lw_m2 4 rfl) rfl
theorem q330 : (Jvm.Cond.fieldLink "GrowingDoor$Mates" (22 : Nat) "GrowingDoor$Mates" "least" "I") ∈ lw_all := lw_g (lw_at lw_m2 5 rfl) rfl
theorem q332 : (Jvm.Cond.laysFinal "GrowingDoor$Mates" "GrowingDoor$Mates" "of" "[I") ∈ lw_all := lw_g (lw_at lw_m2 7 rfl) rfl
theorem q333 : (Jvm.Cond.soleField "GrowingDoor$Mates" "of") ∈ lw_all := lw_g (lw_at lw_m2 8 rfl) rfl
theorem q334 : (Jvm.Cond.laysFinal "GrowingDoor$Mates" "GrowingDoor$Mates" "best" "[I") ∈ lw_all := lw_g (lw_at lw_m2 9 rfl) rfl
theorem q335 : (Jvm.Cond.soleField "GrowingDoor$Mates" "best") ∈ lw_all := lw_g (lw_at lw_m2 10 rfl) rfl
theorem q336 : (Jvm.Cond.lays "GrowingDoor$Mates" "GrowingDoor$Mates" "state" "LGrowingDoor$State;") ∈ lw_all := lw_g (lw_at lw_m2 11 rfl) rfl
theorem q337 : (Jvm.Cond.soleField "GrowingDoor$Mates" "state") ∈ lw_all := lw_g (lw_at lw_m2 12 rfl) rfl
theorem q338 : (Jvm.Cond.lays "GrowingDoor$Mates" "GrowingDoor$Mates" "least" "I") ∈ lw_all := lw_g (lw_at lw_m2 13 rfl) rfl
theorem q339 : (Jvm.Cond.soleField "GrowingDoor$Mates" "least") ∈ lw_all := lw_g (lw_at lw_m2 14 rfl) rfl
theorem q340 : (Jvm.Cond.superclass "GrowingDoor$Mates" "java/lang/Object") ∈ lw_all := lw_g (lw_at lw_m2 15 rfl) rfl
theorem q444 : (Jvm.Cond.instanceMethod ({ cls := "GrowingDoor$Mates", name := "finds", desc := "(LGrowingDoor$State;)V" } : Jvm.MethodName)) ∈ lw_all := lw_g (lw_at lw_m2 119 rfl) rfl
theorem q445 : (Jvm.Cond.selects "GrowingDoor$Mates" ({ cls := "GrowingDoor$Mates", name := "finds", desc := "(LGrowingDoor$State;)V" } : Jvm.MethodName) ({ cls := "GrowingDoor$Mates", name := "finds", desc := "(LGrowingDoor$State;)V" } : Jvm.MethodName)) ∈ lw_all := lw_g (lw_at lw_m2 120 rfl) rfl
theorem q446 : (Jvm.Cond.code ({ cls := "GrowingDoor$Mates", name := "finds", desc := "(LGrowingDoor$State;)V" } : Jvm.MethodName) prog_7_method_2_code (3 : Nat) (Option.none : Option Jvm.ClassFile.FieldType)) ∈ lw_all := lw_g (lw_at lw_m2 121 rfl) rfl
theorem q447 : (Jvm.Cond.methodLink "GrowingDoor$Mates" (26 : Nat) ({ cls := "GrowingDoor$State", name := "there", desc := "()I" } : Jvm.MethodName)) ∈ lw_all := lw_g (lw_at lw_m2 122 rfl) rfl
theorem q451 : (Jvm.Cond.methodLink "GrowingDoor$Mates" (32 : Nat) ({ cls := "java/lang/Integer", name := "bitCount", desc := "(I)I" } : Jvm.MethodName)) ∈ lw_all := lw_g (lw_at lw_m2 126 rfl) rfl
theorem q457 : (Jvm.Cond.methodLink "GrowingDoor$Mates" (38 : Nat) ({ cls := "GrowingDoor$Mates", name := "tries", desc := "(IZI)V" } : Jvm.MethodName)) ∈ lw_all := lw_g (lw_at lw_m2 132 rfl) rfl
theorem q458 : (Jvm.Cond.privateMethod ({ cls := "GrowingDoor$Mates", name := "tries", desc := "(IZI)V" } : Jvm.MethodName)) ∈ lw_tbl := lw_at lw_m2 133 rfl
theorem q459 : (Jvm.Cond.instanceMethod ({ cls := "GrowingDoor$Mates", name := "tries", desc := "(IZI)V" } : Jvm.MethodName)) ∈ lw_all := lw_g (lw_at lw_m2 134 rfl) rfl
theorem q460 : (Jvm.Cond.code ({ cls := "GrowingDoor$Mates", name := "tries", desc := "(IZI)V" } : Jvm.MethodName) prog_7_method_3_code (7 : Nat) (Option.none : Option Jvm.ClassFile.FieldType)) ∈ lw_all := lw_g (lw_at lw_m2 135 rfl) rfl
theorem q461 : (Jvm.Cond.methodLink "GrowingDoor$Mates" (42 : Nat) ({ cls := "java/lang/System", name := "arraycopy", desc := "(Ljava/lang/Object;ILjava/lang/Object;II)V" } : Jvm.MethodName)) ∈ lw_all := lw_g (lw_at lw_m2 136 rfl) rfl
theorem q462 : (Jvm.Cond.methodLink "GrowingDoor$Mates" (48 : Nat) ({ cls := "java/lang/Integer", name := "numberOfTrailingZeros", desc := "(I)I" } : Jvm.MethodName)) ∈ lw_all := lw_g (lw_at lw_m2 137 rfl) rfl
theorem q466 : (Jvm.Cond.methodLink "GrowingDoor$Mates" (63 : Nat) ({ cls := "java/lang/Math", name := "abs", desc := "(I)I" } : Jvm.MethodName)) ∈ lw_all := lw_g (lw_at lw_m2 141 rfl) rfl
theorem q2060 : (Jvm.Cond.castable "GrowingDoor$Mates" "java/lang/Object") ∈ lw_tbl := lw_at lw_m9 55 rfl
theorem in_X7 : ∀ w ∈ wsX70, w ∈ lw_all := lw_in wsX70 [332, 334, 336, 338] (by decide +kernel) (by decide +kernel)
/-! GrowingDoor$SchoolReader -/
set_option maxRecDepth 100000
def RX9 : String := "GrowingDoor$SchoolReader"
def TX9 : u_T := fun k => match k with
  | 0 => ("GrowingDoor$SchoolReader", "words", "[Ljava/lang/String;", true)
  | 1 => ("GrowingDoor$SchoolReader", "in", "LGrowingDoor$Reader;", true)
  | 2 => ("GrowingDoor$SchoolReader", "school", "LGrowingDoor$School;", true)
  | _ => ("GrowingDoor$SchoolReader", "clauses", "I", false)
def tyX9 : Nat → FieldType := fun k => match k with
  | 0 => .array (.object "java/lang/String")
  | 1 => .object "GrowingDoor$Reader"
  | 2 => .object "GrowingDoor$School"
  | _ => .int
abbrev wsX90 : List Cond := u_ws RX9 TX9 4
theorem nmX9 : ∀ a, a < 4 → ∀ b, b < 4 → a ≠ b → (TX9 a).2.1 ≠ (TX9 b).2.1 := by decide +kernel
theorem tyX9_ok : ∀ k, k < 4 → parseFieldDescriptor (TX9 k).2.2.1 = some (tyX9 k) := by decide +kernel
abbrev cX9_init : ByteArray := prog_15_method_1_code
def yX9_init : MethodName := ⟨RX9, "<init>", "(LGrowingDoor$Reader;)V"⟩
def dkwX9_init_2 : List UInt8 := [177]
abbrev dktX9_init_2 : List UInt8 := dkwX9_init_2 ++ []
def dkwX9_init_1 : List UInt8 := [89, 6, 18, 17, 83, 181, 0, 19, 42, 187, 0, 25, 89, 183, 0, 27, 181, 0, 28, 42, 43, 181, 0, 32]
abbrev dktX9_init_1 : List UInt8 := dkwX9_init_1 ++ dktX9_init_2
def dkwX9_init_0 : List UInt8 := [42, 183, 0, 3, 42, 7, 189, 0, 9, 89, 3, 18, 11, 83, 89, 4, 18, 13, 83, 89, 5, 18, 15, 83]
abbrev dktX9_init_0 : List UInt8 := dkwX9_init_0 ++ dktX9_init_1
theorem dksX9_init_0 : cX9_init.data.toList.drop 0 = dktX9_init_0 := by decide +kernel
theorem dksX9_init_1 : cX9_init.data.toList.drop 24 = dktX9_init_1 := dk_seg dksX9_init_0 24 rfl rfl
theorem dksX9_init_2 : cX9_init.data.toList.drop 48 = dktX9_init_2 := dk_seg dksX9_init_1 24 rfl rfl
theorem dX9_init_0 : decode cX9_init 0 = .ok (.aload_n 0, 1) := dk_42 (dk_at dksX9_init_0 0 rfl rfl)
theorem dX9_init_1 : decode cX9_init 1 = .ok (.invokespecial 3, 3) := dk_183 0 3 (dk_at dksX9_init_0 1 rfl rfl)
theorem dX9_init_4 : decode cX9_init 4 = .ok (.aload_n 0, 1) := dk_42 (dk_at dksX9_init_0 4 rfl rfl)
theorem dX9_init_5 : decode cX9_init 5 = .ok (.iconst 4, 1) := dk_7 (dk_at dksX9_init_0 5 rfl rfl)
theorem dX9_init_6 : decode cX9_init 6 = .ok (.anewarray 9, 3) := dk_189 0 9 (dk_at dksX9_init_0 6 rfl rfl)
theorem dX9_init_9 : decode cX9_init 9 = .ok (.dup, 1) := dk_89 (dk_at dksX9_init_0 9 rfl rfl)
theorem dX9_init_10 : decode cX9_init 10 = .ok (.iconst 0, 1) := dk_3 (dk_at dksX9_init_0 10 rfl rfl)
theorem dX9_init_11 : decode cX9_init 11 = .ok (.ldc 11, 2) := dk_18 11 (dk_at dksX9_init_0 11 rfl rfl)
theorem dX9_init_13 : decode cX9_init 13 = .ok (.aastore, 1) := dk_83 (dk_at dksX9_init_0 13 rfl rfl)
theorem dX9_init_14 : decode cX9_init 14 = .ok (.dup, 1) := dk_89 (dk_at dksX9_init_0 14 rfl rfl)
theorem dX9_init_15 : decode cX9_init 15 = .ok (.iconst 1, 1) := dk_4 (dk_at dksX9_init_0 15 rfl rfl)
theorem dX9_init_16 : decode cX9_init 16 = .ok (.ldc 13, 2) := dk_18 13 (dk_at dksX9_init_0 16 rfl rfl)
theorem dX9_init_18 : decode cX9_init 18 = .ok (.aastore, 1) := dk_83 (dk_at dksX9_init_0 18 rfl rfl)
theorem dX9_init_19 : decode cX9_init 19 = .ok (.dup, 1) := dk_89 (dk_at dksX9_init_0 19 rfl rfl)
theorem dX9_init_20 : decode cX9_init 20 = .ok (.iconst 2, 1) := dk_5 (dk_at dksX9_init_0 20 rfl rfl)
theorem dX9_init_21 : decode cX9_init 21 = .ok (.ldc 15, 2) := dk_18 15 (dk_at dksX9_init_0 21 rfl rfl)
theorem dX9_init_23 : decode cX9_init 23 = .ok (.aastore, 1) := dk_83 (dk_at dksX9_init_0 23 rfl rfl)
theorem dX9_init_24 : decode cX9_init 24 = .ok (.dup, 1) := dk_89 (dk_at dksX9_init_1 0 rfl rfl)
theorem dX9_init_25 : decode cX9_init 25 = .ok (.iconst 3, 1) := dk_6 (dk_at dksX9_init_1 1 rfl rfl)
theorem dX9_init_26 : decode cX9_init 26 = .ok (.ldc 17, 2) := dk_18 17 (dk_at dksX9_init_1 2 rfl rfl)
theorem dX9_init_28 : decode cX9_init 28 = .ok (.aastore, 1) := dk_83 (dk_at dksX9_init_1 4 rfl rfl)
theorem dX9_init_29 : decode cX9_init 29 = .ok (.putfield 19, 3) := dk_181 0 19 (dk_at dksX9_init_1 5 rfl rfl)
theorem dX9_init_32 : decode cX9_init 32 = .ok (.aload_n 0, 1) := dk_42 (dk_at dksX9_init_1 8 rfl rfl)
theorem dX9_init_33 : decode cX9_init 33 = .ok (.new 25, 3) := dk_187 0 25 (dk_at dksX9_init_1 9 rfl rfl)
theorem dX9_init_36 : decode cX9_init 36 = .ok (.dup, 1) := dk_89 (dk_at dksX9_init_1 12 rfl rfl)
theorem dX9_init_37 : decode cX9_init 37 = .ok (.invokespecial 27, 3) := dk_183 0 27 (dk_at dksX9_init_1 13 rfl rfl)
theorem dX9_init_40 : decode cX9_init 40 = .ok (.putfield 28, 3) := dk_181 0 28 (dk_at dksX9_init_1 16 rfl rfl)
theorem dX9_init_43 : decode cX9_init 43 = .ok (.aload_n 0, 1) := dk_42 (dk_at dksX9_init_1 19 rfl rfl)
theorem dX9_init_44 : decode cX9_init 44 = .ok (.aload_n 1, 1) := dk_43 (dk_at dksX9_init_1 20 rfl rfl)
theorem dX9_init_45 : decode cX9_init 45 = .ok (.putfield 32, 3) := dk_181 0 32 (dk_at dksX9_init_1 21 rfl rfl)
theorem dX9_init_48 : decode cX9_init 48 = .ok (.return_, 1) := dk_177 (dk_at dksX9_init_2 0 rfl rfl)
abbrev cX9_reads : ByteArray := prog_15_method_2_code
def yX9_reads : MethodName := ⟨RX9, "reads", "()LGrowingDoor$School;"⟩
def dkwX9_reads_0 : List UInt8 := [42, 180, 0, 32, 182, 0, 36, 2, 159, 0, 10, 42, 182, 0, 42, 167, 255, 241, 42, 180, 0, 28, 176]
abbrev dktX9_reads_0 : List UInt8 := dkwX9_reads_0 ++ []
theorem dksX9_reads_0 : cX9_reads.data.toList.drop 0 = dktX9_reads_0 := by decide +kernel
theorem dX9_reads_0 : decode cX9_reads 0 = .ok (.aload_n 0, 1) := dk_42 (dk_at dksX9_reads_0 0 rfl rfl)
theorem dX9_reads_1 : decode cX9_reads 1 = .ok (.getfield 32, 3) := dk_180 0 32 (dk_at dksX9_reads_0 1 rfl rfl)
theorem dX9_reads_4 : decode cX9_reads 4 = .ok (.invokevirtual 36, 3) := dk_182 0 36 (dk_at dksX9_reads_0 4 rfl rfl)
theorem dX9_reads_7 : decode cX9_reads 7 = .ok (.iconst (-1), 1) := dk_2 (dk_at dksX9_reads_0 7 rfl rfl)
theorem dX9_reads_8 : decode cX9_reads 8 = .ok (.if_icmp .eq 10, 3) := dk_159 0 10 (dk_at dksX9_reads_0 8 rfl rfl)
theorem dX9_reads_11 : decode cX9_reads 11 = .ok (.aload_n 0, 1) := dk_42 (dk_at dksX9_reads_0 11 rfl rfl)
theorem dX9_reads_12 : decode cX9_reads 12 = .ok (.invokevirtual 42, 3) := dk_182 0 42 (dk_at dksX9_reads_0 12 rfl rfl)
theorem dX9_reads_15 : decode cX9_reads 15 = .ok (.goto (-15), 3) := dk_167 255 241 (dk_at dksX9_reads_0 15 rfl rfl)
theorem dX9_reads_18 : decode cX9_reads 18 = .ok (.aload_n 0, 1) := dk_42 (dk_at dksX9_reads_0 18 rfl rfl)
theorem dX9_reads_19 : decode cX9_reads 19 = .ok (.getfield 28, 3) := dk_180 0 28 (dk_at dksX9_reads_0 19 rfl rfl)
theorem dX9_reads_22 : decode cX9_reads 22 = .ok (.areturn, 1) := dk_176 (dk_at dksX9_reads_0 22 rfl rfl)
abbrev cX9_clause : ByteArray := prog_15_method_4_code
def yX9_clause : MethodName := ⟨RX9, "clause", "()V"⟩
def dkwX9_clause_12 : List UInt8 := [16, 9, 182, 0, 78, 79, 167, 0, 3, 42, 180, 0, 32, 16, 59, 182, 0, 95, 177]
abbrev dktX9_clause_12 : List UInt8 := dkwX9_clause_12 ++ []
def dkwX9_clause_11 : List UInt8 := [180, 0, 32, 3, 16, 11, 182, 0, 78, 62, 42, 180, 0, 28, 180, 0, 93, 29, 42, 180, 0, 32, 3]
abbrev dktX9_clause_11 : List UInt8 := dkwX9_clause_11 ++ dktX9_clause_12
def dkwX9_clause_10 : List UInt8 := [42, 180, 0, 28, 89, 180, 0, 52, 4, 96, 181, 0, 52, 167, 0, 43, 42, 182, 0, 91, 167, 0, 36, 42]
abbrev dktX9_clause_10 : List UInt8 := dkwX9_clause_10 ++ dktX9_clause_11
def dkwX9_clause_9 : List UInt8 := [180, 0, 28, 180, 0, 88, 42, 180, 0, 28, 180, 0, 52, 42, 180, 0, 32, 3, 16, 9, 182, 0, 78, 79]
abbrev dktX9_clause_9 : List UInt8 := dkwX9_clause_9 ++ dktX9_clause_10
def dkwX9_clause_8 : List UInt8 := [180, 0, 85, 42, 180, 0, 28, 180, 0, 52, 42, 180, 0, 32, 4, 17, 0, 200, 182, 0, 78, 79, 42]
abbrev dktX9_clause_8 : List UInt8 := dkwX9_clause_8 ++ dktX9_clause_9
def dkwX9_clause_7 : List UInt8 := [182, 0, 78, 79, 42, 180, 0, 28, 89, 180, 0, 49, 4, 96, 181, 0, 49, 167, 0, 110, 42, 180, 0, 28]
abbrev dktX9_clause_7 : List UInt8 := dkwX9_clause_7 ++ dktX9_clause_8
def dkwX9_clause_6 : List UInt8 := [79, 42, 180, 0, 28, 180, 0, 82, 42, 180, 0, 28, 180, 0, 49, 42, 180, 0, 32, 3, 16, 9]
abbrev dktX9_clause_6 : List UInt8 := dkwX9_clause_6 ++ dktX9_clause_7
def dkwX9_clause_5 : List UInt8 := [42, 180, 0, 28, 180, 0, 74, 42, 180, 0, 28, 180, 0, 49, 42, 180, 0, 32, 4, 16, 60, 182, 0, 78]
abbrev dktX9_clause_5 : List UInt8 := dkwX9_clause_5 ++ dktX9_clause_6
def dkwX9_clause_4 : List UInt8 := [170, 0, 0, 0, 165, 0, 0, 0, 0, 0, 0, 0, 2, 0, 0, 0, 25, 0, 0, 0, 91, 0, 0, 0, 158]
abbrev dktX9_clause_4 : List UInt8 := dkwX9_clause_4 ++ dktX9_clause_5
def dkwX9_clause_3 : List UInt8 := [28]
abbrev dktX9_clause_3 : List UInt8 := dkwX9_clause_3 ++ dktX9_clause_4
def dkwX9_clause_2 : List UInt8 := [89, 6, 27, 183, 0, 64, 191, 42, 180, 0, 32, 182, 0, 71, 42, 89, 180, 0, 45, 4, 96, 181, 0, 45]
abbrev dktX9_clause_2 : List UInt8 := dkwX9_clause_2 ++ dktX9_clause_3
def dkwX9_clause_1 : List UInt8 := [160, 0, 13, 187, 0, 62, 89, 4, 27, 183, 0, 64, 191, 42, 28, 182, 0, 67, 153, 0, 13, 187, 0, 62]
abbrev dktX9_clause_1 : List UInt8 := dkwX9_clause_1 ++ dktX9_clause_2
def dkwX9_clause_0 : List UInt8 := [42, 180, 0, 32, 182, 0, 55, 60, 42, 180, 0, 32, 42, 180, 0, 19, 182, 0, 58, 61, 28, 2]
abbrev dktX9_clause_0 : List UInt8 := dkwX9_clause_0 ++ dktX9_clause_1
theorem dksX9_clause_0 : cX9_clause.data.toList.drop 0 = dktX9_clause_0 := by decide +kernel
theorem dksX9_clause_1 : cX9_clause.data.toList.drop 22 = dktX9_clause_1 := dk_seg dksX9_clause_0 22 rfl rfl
theorem dksX9_clause_2 : cX9_clause.data.toList.drop 46 = dktX9_clause_2 := dk_seg dksX9_clause_1 24 rfl rfl
theorem dksX9_clause_3 : cX9_clause.data.toList.drop 70 = dktX9_clause_3 := dk_seg dksX9_clause_2 24 rfl rfl
theorem dksX9_clause_4 : cX9_clause.data.toList.drop 71 = dktX9_clause_4 := dk_seg dksX9_clause_3 1 rfl rfl
theorem dksX9_clause_5 : cX9_clause.data.toList.drop 96 = dktX9_clause_5 := dk_seg dksX9_clause_4 25 rfl rfl
theorem dksX9_clause_6 : cX9_clause.data.toList.drop 120 = dktX9_clause_6 := dk_seg dksX9_clause_5 24 rfl rfl
theorem dksX9_clause_7 : cX9_clause.data.toList.drop 142 = dktX9_clause_7 := dk_seg dksX9_clause_6 22 rfl rfl
theorem dksX9_clause_8 : cX9_clause.data.toList.drop 166 = dktX9_clause_8 := dk_seg dksX9_clause_7 24 rfl rfl
theorem dksX9_clause_9 : cX9_clause.data.toList.drop 189 = dktX9_clause_9 := dk_seg dksX9_clause_8 23 rfl rfl
theorem dksX9_clause_10 : cX9_clause.data.toList.drop 213 = dktX9_clause_10 := dk_seg dksX9_clause_9 24 rfl rfl
theorem dksX9_clause_11 : cX9_clause.data.toList.drop 237 = dktX9_clause_11 := dk_seg dksX9_clause_10 24 rfl rfl
theorem dksX9_clause_12 : cX9_clause.data.toList.drop 260 = dktX9_clause_12 := dk_seg dksX9_clause_11 23 rfl rfl
theorem dX9_clause_0 : decode cX9_clause 0 = .ok (.aload_n 0, 1) := dk_42 (dk_at dksX9_clause_0 0 rfl rfl)
theorem dX9_clause_1 : decode cX9_clause 1 = .ok (.getfield 32, 3) := dk_180 0 32 (dk_at dksX9_clause_0 1 rfl rfl)
theorem dX9_clause_4 : decode cX9_clause 4 = .ok (.invokevirtual 55, 3) := dk_182 0 55 (dk_at dksX9_clause_0 4 rfl rfl)
theorem dX9_clause_7 : decode cX9_clause 7 = .ok (.istore_n 1, 1) := dk_60 (dk_at dksX9_clause_0 7 rfl rfl)
theorem dX9_clause_8 : decode cX9_clause 8 = .ok (.aload_n 0, 1) := dk_42 (dk_at dksX9_clause_0 8 rfl rfl)
theorem dX9_clause_9 : decode cX9_clause 9 = .ok (.getfield 32, 3) := dk_180 0 32 (dk_at dksX9_clause_0 9 rfl rfl)
theorem dX9_clause_12 : decode cX9_clause 12 = .ok (.aload_n 0, 1) := dk_42 (dk_at dksX9_clause_0 12 rfl rfl)
theorem dX9_clause_13 : decode cX9_clause 13 = .ok (.getfield 19, 3) := dk_180 0 19 (dk_at dksX9_clause_0 13 rfl rfl)
theorem dX9_clause_16 : decode cX9_clause 16 = .ok (.invokevirtual 58, 3) := dk_182 0 58 (dk_at dksX9_clause_0 16 rfl rfl)
theorem dX9_clause_19 : decode cX9_clause 19 = .ok (.istore_n 2, 1) := dk_61 (dk_at dksX9_clause_0 19 rfl rfl)
theorem dX9_clause_20 : decode cX9_clause 20 = .ok (.iload_n 2, 1) := dk_28 (dk_at dksX9_clause_0 20 rfl rfl)
theorem dX9_clause_21 : decode cX9_clause 21 = .ok (.iconst (-1), 1) := dk_2 (dk_at dksX9_clause_0 21 rfl rfl)
theorem dX9_clause_22 : decode cX9_clause 22 = .ok (.if_icmp .ne 13, 3) := dk_160 0 13 (dk_at dksX9_clause_1 0 rfl rfl)
theorem dX9_clause_25 : decode cX9_clause 25 = .ok (.new 62, 3) := dk_187 0 62 (dk_at dksX9_clause_1 3 rfl rfl)
theorem dX9_clause_28 : decode cX9_clause 28 = .ok (.dup, 1) := dk_89 (dk_at dksX9_clause_1 6 rfl rfl)
theorem dX9_clause_29 : decode cX9_clause 29 = .ok (.iconst 1, 1) := dk_4 (dk_at dksX9_clause_1 7 rfl rfl)
theorem dX9_clause_30 : decode cX9_clause 30 = .ok (.iload_n 1, 1) := dk_27 (dk_at dksX9_clause_1 8 rfl rfl)
theorem dX9_clause_31 : decode cX9_clause 31 = .ok (.invokespecial 64, 3) := dk_183 0 64 (dk_at dksX9_clause_1 9 rfl rfl)
theorem dX9_clause_34 : decode cX9_clause 34 = .ok (.athrow, 1) := dk_191 (dk_at dksX9_clause_1 12 rfl rfl)
theorem dX9_clause_35 : decode cX9_clause 35 = .ok (.aload_n 0, 1) := dk_42 (dk_at dksX9_clause_1 13 rfl rfl)
theorem dX9_clause_36 : decode cX9_clause 36 = .ok (.iload_n 2, 1) := dk_28 (dk_at dksX9_clause_1 14 rfl rfl)
theorem dX9_clause_37 : decode cX9_clause 37 = .ok (.invokevirtual 67, 3) := dk_182 0 67 (dk_at dksX9_clause_1 15 rfl rfl)
theorem dX9_clause_40 : decode cX9_clause 40 = .ok (.ifCond .eq 13, 3) := dk_153 0 13 (dk_at dksX9_clause_1 18 rfl rfl)
theorem dX9_clause_43 : decode cX9_clause 43 = .ok (.new 62, 3) := dk_187 0 62 (dk_at dksX9_clause_1 21 rfl rfl)
theorem dX9_clause_46 : decode cX9_clause 46 = .ok (.dup, 1) := dk_89 (dk_at dksX9_clause_2 0 rfl rfl)
theorem dX9_clause_47 : decode cX9_clause 47 = .ok (.iconst 3, 1) := dk_6 (dk_at dksX9_clause_2 1 rfl rfl)
theorem dX9_clause_48 : decode cX9_clause 48 = .ok (.iload_n 1, 1) := dk_27 (dk_at dksX9_clause_2 2 rfl rfl)
theorem dX9_clause_49 : decode cX9_clause 49 = .ok (.invokespecial 64, 3) := dk_183 0 64 (dk_at dksX9_clause_2 3 rfl rfl)
theorem dX9_clause_52 : decode cX9_clause 52 = .ok (.athrow, 1) := dk_191 (dk_at dksX9_clause_2 6 rfl rfl)
theorem dX9_clause_53 : decode cX9_clause 53 = .ok (.aload_n 0, 1) := dk_42 (dk_at dksX9_clause_2 7 rfl rfl)
theorem dX9_clause_54 : decode cX9_clause 54 = .ok (.getfield 32, 3) := dk_180 0 32 (dk_at dksX9_clause_2 8 rfl rfl)
theorem dX9_clause_57 : decode cX9_clause 57 = .ok (.invokevirtual 71, 3) := dk_182 0 71 (dk_at dksX9_clause_2 11 rfl rfl)
theorem dX9_clause_60 : decode cX9_clause 60 = .ok (.aload_n 0, 1) := dk_42 (dk_at dksX9_clause_2 14 rfl rfl)
theorem dX9_clause_61 : decode cX9_clause 61 = .ok (.dup, 1) := dk_89 (dk_at dksX9_clause_2 15 rfl rfl)
theorem dX9_clause_62 : decode cX9_clause 62 = .ok (.getfield 45, 3) := dk_180 0 45 (dk_at dksX9_clause_2 16 rfl rfl)
theorem dX9_clause_65 : decode cX9_clause 65 = .ok (.iconst 1, 1) := dk_4 (dk_at dksX9_clause_2 19 rfl rfl)
theorem dX9_clause_66 : decode cX9_clause 66 = .ok (.iadd, 1) := dk_96 (dk_at dksX9_clause_2 20 rfl rfl)
theorem dX9_clause_67 : decode cX9_clause 67 = .ok (.putfield 45, 3) := dk_181 0 45 (dk_at dksX9_clause_2 21 rfl rfl)
theorem dX9_clause_70 : decode cX9_clause 70 = .ok (.iload_n 2, 1) := dk_28 (dk_at dksX9_clause_3 0 rfl rfl)
theorem dX9_clause_71 : decode cX9_clause 71 = .ok (.tableswitch 165 0 2 #[25, 91, 158], 25) := by decide +kernel
theorem dX9_clause_96 : decode cX9_clause 96 = .ok (.aload_n 0, 1) := dk_42 (dk_at dksX9_clause_5 0 rfl rfl)
theorem dX9_clause_97 : decode cX9_clause 97 = .ok (.getfield 28, 3) := dk_180 0 28 (dk_at dksX9_clause_5 1 rfl rfl)
theorem dX9_clause_100 : decode cX9_clause 100 = .ok (.getfield 74, 3) := dk_180 0 74 (dk_at dksX9_clause_5 4 rfl rfl)
theorem dX9_clause_103 : decode cX9_clause 103 = .ok (.aload_n 0, 1) := dk_42 (dk_at dksX9_clause_5 7 rfl rfl)
theorem dX9_clause_104 : decode cX9_clause 104 = .ok (.getfield 28, 3) := dk_180 0 28 (dk_at dksX9_clause_5 8 rfl rfl)
theorem dX9_clause_107 : decode cX9_clause 107 = .ok (.getfield 49, 3) := dk_180 0 49 (dk_at dksX9_clause_5 11 rfl rfl)
theorem dX9_clause_110 : decode cX9_clause 110 = .ok (.aload_n 0, 1) := dk_42 (dk_at dksX9_clause_5 14 rfl rfl)
theorem dX9_clause_111 : decode cX9_clause 111 = .ok (.getfield 32, 3) := dk_180 0 32 (dk_at dksX9_clause_5 15 rfl rfl)
theorem dX9_clause_114 : decode cX9_clause 114 = .ok (.iconst 1, 1) := dk_4 (dk_at dksX9_clause_5 18 rfl rfl)
theorem dX9_clause_115 : decode cX9_clause 115 = .ok (.bipush 60, 2) := dk_16 60 (dk_at dksX9_clause_5 19 rfl rfl)
theorem dX9_clause_117 : decode cX9_clause 117 = .ok (.invokevirtual 78, 3) := dk_182 0 78 (dk_at dksX9_clause_5 21 rfl rfl)
theorem dX9_clause_120 : decode cX9_clause 120 = .ok (.iastore, 1) := dk_79 (dk_at dksX9_clause_6 0 rfl rfl)
theorem dX9_clause_121 : decode cX9_clause 121 = .ok (.aload_n 0, 1) := dk_42 (dk_at dksX9_clause_6 1 rfl rfl)
theorem dX9_clause_122 : decode cX9_clause 122 = .ok (.getfield 28, 3) := dk_180 0 28 (dk_at dksX9_clause_6 2 rfl rfl)
theorem dX9_clause_125 : decode cX9_clause 125 = .ok (.getfield 82, 3) := dk_180 0 82 (dk_at dksX9_clause_6 5 rfl rfl)
theorem dX9_clause_128 : decode cX9_clause 128 = .ok (.aload_n 0, 1) := dk_42 (dk_at dksX9_clause_6 8 rfl rfl)
theorem dX9_clause_129 : decode cX9_clause 129 = .ok (.getfield 28, 3) := dk_180 0 28 (dk_at dksX9_clause_6 9 rfl rfl)
theorem dX9_clause_132 : decode cX9_clause 132 = .ok (.getfield 49, 3) := dk_180 0 49 (dk_at dksX9_clause_6 12 rfl rfl)
theorem dX9_clause_135 : decode cX9_clause 135 = .ok (.aload_n 0, 1) := dk_42 (dk_at dksX9_clause_6 15 rfl rfl)
theorem dX9_clause_136 : decode cX9_clause 136 = .ok (.getfield 32, 3) := dk_180 0 32 (dk_at dksX9_clause_6 16 rfl rfl)
theorem dX9_clause_139 : decode cX9_clause 139 = .ok (.iconst 0, 1) := dk_3 (dk_at dksX9_clause_6 19 rfl rfl)
theorem dX9_clause_140 : decode cX9_clause 140 = .ok (.bipush 9, 2) := dk_16 9 (dk_at dksX9_clause_6 20 rfl rfl)
theorem dX9_clause_142 : decode cX9_clause 142 = .ok (.invokevirtual 78, 3) := dk_182 0 78 (dk_at dksX9_clause_7 0 rfl rfl)
theorem dX9_clause_145 : decode cX9_clause 145 = .ok (.iastore, 1) := dk_79 (dk_at dksX9_clause_7 3 rfl rfl)
theorem dX9_clause_146 : decode cX9_clause 146 = .ok (.aload_n 0, 1) := dk_42 (dk_at dksX9_clause_7 4 rfl rfl)
theorem dX9_clause_147 : decode cX9_clause 147 = .ok (.getfield 28, 3) := dk_180 0 28 (dk_at dksX9_clause_7 5 rfl rfl)
theorem dX9_clause_150 : decode cX9_clause 150 = .ok (.dup, 1) := dk_89 (dk_at dksX9_clause_7 8 rfl rfl)
theorem dX9_clause_151 : decode cX9_clause 151 = .ok (.getfield 49, 3) := dk_180 0 49 (dk_at dksX9_clause_7 9 rfl rfl)
theorem dX9_clause_154 : decode cX9_clause 154 = .ok (.iconst 1, 1) := dk_4 (dk_at dksX9_clause_7 12 rfl rfl)
theorem dX9_clause_155 : decode cX9_clause 155 = .ok (.iadd, 1) := dk_96 (dk_at dksX9_clause_7 13 rfl rfl)
theorem dX9_clause_156 : decode cX9_clause 156 = .ok (.putfield 49, 3) := dk_181 0 49 (dk_at dksX9_clause_7 14 rfl rfl)
theorem dX9_clause_159 : decode cX9_clause 159 = .ok (.goto 110, 3) := dk_167 0 110 (dk_at dksX9_clause_7 17 rfl rfl)
theorem dX9_clause_162 : decode cX9_clause 162 = .ok (.aload_n 0, 1) := dk_42 (dk_at dksX9_clause_7 20 rfl rfl)
theorem dX9_clause_163 : decode cX9_clause 163 = .ok (.getfield 28, 3) := dk_180 0 28 (dk_at dksX9_clause_7 21 rfl rfl)
theorem dX9_clause_166 : decode cX9_clause 166 = .ok (.getfield 85, 3) := dk_180 0 85 (dk_at dksX9_clause_8 0 rfl rfl)
theorem dX9_clause_169 : decode cX9_clause 169 = .ok (.aload_n 0, 1) := dk_42 (dk_at dksX9_clause_8 3 rfl rfl)
theorem dX9_clause_170 : decode cX9_clause 170 = .ok (.getfield 28, 3) := dk_180 0 28 (dk_at dksX9_clause_8 4 rfl rfl)
theorem dX9_clause_173 : decode cX9_clause 173 = .ok (.getfield 52, 3) := dk_180 0 52 (dk_at dksX9_clause_8 7 rfl rfl)
theorem dX9_clause_176 : decode cX9_clause 176 = .ok (.aload_n 0, 1) := dk_42 (dk_at dksX9_clause_8 10 rfl rfl)
theorem dX9_clause_177 : decode cX9_clause 177 = .ok (.getfield 32, 3) := dk_180 0 32 (dk_at dksX9_clause_8 11 rfl rfl)
theorem dX9_clause_180 : decode cX9_clause 180 = .ok (.iconst 1, 1) := dk_4 (dk_at dksX9_clause_8 14 rfl rfl)
theorem dX9_clause_181 : decode cX9_clause 181 = .ok (.sipush 200, 3) := dk_17 0 200 (dk_at dksX9_clause_8 15 rfl rfl)
theorem dX9_clause_184 : decode cX9_clause 184 = .ok (.invokevirtual 78, 3) := dk_182 0 78 (dk_at dksX9_clause_8 18 rfl rfl)
theorem dX9_clause_187 : decode cX9_clause 187 = .ok (.iastore, 1) := dk_79 (dk_at dksX9_clause_8 21 rfl rfl)
theorem dX9_clause_188 : decode cX9_clause 188 = .ok (.aload_n 0, 1) := dk_42 (dk_at dksX9_clause_8 22 rfl rfl)
theorem dX9_clause_189 : decode cX9_clause 189 = .ok (.getfield 28, 3) := dk_180 0 28 (dk_at dksX9_clause_9 0 rfl rfl)
theorem dX9_clause_192 : decode cX9_clause 192 = .ok (.getfield 88, 3) := dk_180 0 88 (dk_at dksX9_clause_9 3 rfl rfl)
theorem dX9_clause_195 : decode cX9_clause 195 = .ok (.aload_n 0, 1) := dk_42 (dk_at dksX9_clause_9 6 rfl rfl)
theorem dX9_clause_196 : decode cX9_clause 196 = .ok (.getfield 28, 3) := dk_180 0 28 (dk_at dksX9_clause_9 7 rfl rfl)
theorem dX9_clause_199 : decode cX9_clause 199 = .ok (.getfield 52, 3) := dk_180 0 52 (dk_at dksX9_clause_9 10 rfl rfl)
theorem dX9_clause_202 : decode cX9_clause 202 = .ok (.aload_n 0, 1) := dk_42 (dk_at dksX9_clause_9 13 rfl rfl)
theorem dX9_clause_203 : decode cX9_clause 203 = .ok (.getfield 32, 3) := dk_180 0 32 (dk_at dksX9_clause_9 14 rfl rfl)
theorem dX9_clause_206 : decode cX9_clause 206 = .ok (.iconst 0, 1) := dk_3 (dk_at dksX9_clause_9 17 rfl rfl)
theorem dX9_clause_207 : decode cX9_clause 207 = .ok (.bipush 9, 2) := dk_16 9 (dk_at dksX9_clause_9 18 rfl rfl)
theorem dX9_clause_209 : decode cX9_clause 209 = .ok (.invokevirtual 78, 3) := dk_182 0 78 (dk_at dksX9_clause_9 20 rfl rfl)
theorem dX9_clause_212 : decode cX9_clause 212 = .ok (.iastore, 1) := dk_79 (dk_at dksX9_clause_9 23 rfl rfl)
theorem dX9_clause_213 : decode cX9_clause 213 = .ok (.aload_n 0, 1) := dk_42 (dk_at dksX9_clause_10 0 rfl rfl)
theorem dX9_clause_214 : decode cX9_clause 214 = .ok (.getfield 28, 3) := dk_180 0 28 (dk_at dksX9_clause_10 1 rfl rfl)
theorem dX9_clause_217 : decode cX9_clause 217 = .ok (.dup, 1) := dk_89 (dk_at dksX9_clause_10 4 rfl rfl)
theorem dX9_clause_218 : decode cX9_clause 218 = .ok (.getfield 52, 3) := dk_180 0 52 (dk_at dksX9_clause_10 5 rfl rfl)
theorem dX9_clause_221 : decode cX9_clause 221 = .ok (.iconst 1, 1) := dk_4 (dk_at dksX9_clause_10 8 rfl rfl)
theorem dX9_clause_222 : decode cX9_clause 222 = .ok (.iadd, 1) := dk_96 (dk_at dksX9_clause_10 9 rfl rfl)
theorem dX9_clause_223 : decode cX9_clause 223 = .ok (.putfield 52, 3) := dk_181 0 52 (dk_at dksX9_clause_10 10 rfl rfl)
theorem dX9_clause_226 : decode cX9_clause 226 = .ok (.goto 43, 3) := dk_167 0 43 (dk_at dksX9_clause_10 13 rfl rfl)
theorem dX9_clause_229 : decode cX9_clause 229 = .ok (.aload_n 0, 1) := dk_42 (dk_at dksX9_clause_10 16 rfl rfl)
theorem dX9_clause_230 : decode cX9_clause 230 = .ok (.invokevirtual 91, 3) := dk_182 0 91 (dk_at dksX9_clause_10 17 rfl rfl)
theorem dX9_clause_233 : decode cX9_clause 233 = .ok (.goto 36, 3) := dk_167 0 36 (dk_at dksX9_clause_10 20 rfl rfl)
theorem dX9_clause_236 : decode cX9_clause 236 = .ok (.aload_n 0, 1) := dk_42 (dk_at dksX9_clause_10 23 rfl rfl)
theorem dX9_clause_237 : decode cX9_clause 237 = .ok (.getfield 32, 3) := dk_180 0 32 (dk_at dksX9_clause_11 0 rfl rfl)
theorem dX9_clause_240 : decode cX9_clause 240 = .ok (.iconst 0, 1) := dk_3 (dk_at dksX9_clause_11 3 rfl rfl)
theorem dX9_clause_241 : decode cX9_clause 241 = .ok (.bipush 11, 2) := dk_16 11 (dk_at dksX9_clause_11 4 rfl rfl)
theorem dX9_clause_243 : decode cX9_clause 243 = .ok (.invokevirtual 78, 3) := dk_182 0 78 (dk_at dksX9_clause_11 6 rfl rfl)
theorem dX9_clause_246 : decode cX9_clause 246 = .ok (.istore_n 3, 1) := dk_62 (dk_at dksX9_clause_11 9 rfl rfl)
theorem dX9_clause_247 : decode cX9_clause 247 = .ok (.aload_n 0, 1) := dk_42 (dk_at dksX9_clause_11 10 rfl rfl)
theorem dX9_clause_248 : decode cX9_clause 248 = .ok (.getfield 28, 3) := dk_180 0 28 (dk_at dksX9_clause_11 11 rfl rfl)
theorem dX9_clause_251 : decode cX9_clause 251 = .ok (.getfield 93, 3) := dk_180 0 93 (dk_at dksX9_clause_11 14 rfl rfl)
theorem dX9_clause_254 : decode cX9_clause 254 = .ok (.iload_n 3, 1) := dk_29 (dk_at dksX9_clause_11 17 rfl rfl)
theorem dX9_clause_255 : decode cX9_clause 255 = .ok (.aload_n 0, 1) := dk_42 (dk_at dksX9_clause_11 18 rfl rfl)
theorem dX9_clause_256 : decode cX9_clause 256 = .ok (.getfield 32, 3) := dk_180 0 32 (dk_at dksX9_clause_11 19 rfl rfl)
theorem dX9_clause_259 : decode cX9_clause 259 = .ok (.iconst 0, 1) := dk_3 (dk_at dksX9_clause_11 22 rfl rfl)
theorem dX9_clause_260 : decode cX9_clause 260 = .ok (.bipush 9, 2) := dk_16 9 (dk_at dksX9_clause_12 0 rfl rfl)
theorem dX9_clause_262 : decode cX9_clause 262 = .ok (.invokevirtual 78, 3) := dk_182 0 78 (dk_at dksX9_clause_12 2 rfl rfl)
theorem dX9_clause_265 : decode cX9_clause 265 = .ok (.iastore, 1) := dk_79 (dk_at dksX9_clause_12 5 rfl rfl)
theorem dX9_clause_266 : decode cX9_clause 266 = .ok (.goto 3, 3) := dk_167 0 3 (dk_at dksX9_clause_12 6 rfl rfl)
theorem dX9_clause_269 : decode cX9_clause 269 = .ok (.aload_n 0, 1) := dk_42 (dk_at dksX9_clause_12 9 rfl rfl)
theorem dX9_clause_270 : decode cX9_clause 270 = .ok (.getfield 32, 3) := dk_180 0 32 (dk_at dksX9_clause_12 10 rfl rfl)
theorem dX9_clause_273 : decode cX9_clause 273 = .ok (.bipush 59, 2) := dk_16 59 (dk_at dksX9_clause_12 13 rfl rfl)
theorem dX9_clause_275 : decode cX9_clause 275 = .ok (.invokevirtual 95, 3) := dk_182 0 95 (dk_at dksX9_clause_12 15 rfl rfl)
theorem dX9_clause_278 : decode cX9_clause 278 = .ok (.return_, 1) := dk_177 (dk_at dksX9_clause_12 18 rfl rfl)
abbrev cX9_isFull : ByteArray := prog_15_method_3_code
def yX9_isFull : MethodName := ⟨RX9, "isFull", "(I)Z"⟩
def dkwX9_isFull_2 : List UInt8 := [3, 172]
abbrev dktX9_isFull_2 : List UInt8 := dkwX9_isFull_2 ++ []
def dkwX9_isFull_1 : List UInt8 := [159, 0, 20, 27, 4, 160, 0, 19, 42, 180, 0, 28, 180, 0, 52, 16, 7, 160, 0, 7, 4, 167, 0, 4]
abbrev dktX9_isFull_1 : List UInt8 := dkwX9_isFull_1 ++ dktX9_isFull_2
def dkwX9_isFull_0 : List UInt8 := [42, 180, 0, 45, 16, 60, 159, 0, 36, 27, 154, 0, 15, 42, 180, 0, 28, 180, 0, 49, 16, 6]
abbrev dktX9_isFull_0 : List UInt8 := dkwX9_isFull_0 ++ dktX9_isFull_1
theorem dksX9_isFull_0 : cX9_isFull.data.toList.drop 0 = dktX9_isFull_0 := by decide +kernel
theorem dksX9_isFull_1 : cX9_isFull.data.toList.drop 22 = dktX9_isFull_1 := dk_seg dksX9_isFull_0 22 rfl rfl
theorem dksX9_isFull_2 : cX9_isFull.data.toList.drop 46 = dktX9_isFull_2 := dk_seg dksX9_isFull_1 24 rfl rfl
theorem dX9_isFull_0 : decode cX9_isFull 0 = .ok (.aload_n 0, 1) := dk_42 (dk_at dksX9_isFull_0 0 rfl rfl)
theorem dX9_isFull_1 : decode cX9_isFull 1 = .ok (.getfield 45, 3) := dk_180 0 45 (dk_at dksX9_isFull_0 1 rfl rfl)
theorem dX9_isFull_4 : decode cX9_isFull 4 = .ok (.bipush 60, 2) := dk_16 60 (dk_at dksX9_isFull_0 4 rfl rfl)
theorem dX9_isFull_6 : decode cX9_isFull 6 = .ok (.if_icmp .eq 36, 3) := dk_159 0 36 (dk_at dksX9_isFull_0 6 rfl rfl)
theorem dX9_isFull_9 : decode cX9_isFull 9 = .ok (.iload_n 1, 1) := dk_27 (dk_at dksX9_isFull_0 9 rfl rfl)
theorem dX9_isFull_10 : decode cX9_isFull 10 = .ok (.ifCond .ne 15, 3) := dk_154 0 15 (dk_at dksX9_isFull_0 10 rfl rfl)
theorem dX9_isFull_13 : decode cX9_isFull 13 = .ok (.aload_n 0, 1) := dk_42 (dk_at dksX9_isFull_0 13 rfl rfl)
theorem dX9_isFull_14 : decode cX9_isFull 14 = .ok (.getfield 28, 3) := dk_180 0 28 (dk_at dksX9_isFull_0 14 rfl rfl)
theorem dX9_isFull_17 : decode cX9_isFull 17 = .ok (.getfield 49, 3) := dk_180 0 49 (dk_at dksX9_isFull_0 17 rfl rfl)
theorem dX9_isFull_20 : decode cX9_isFull 20 = .ok (.bipush 6, 2) := dk_16 6 (dk_at dksX9_isFull_0 20 rfl rfl)
theorem dX9_isFull_22 : decode cX9_isFull 22 = .ok (.if_icmp .eq 20, 3) := dk_159 0 20 (dk_at dksX9_isFull_1 0 rfl rfl)
theorem dX9_isFull_25 : decode cX9_isFull 25 = .ok (.iload_n 1, 1) := dk_27 (dk_at dksX9_isFull_1 3 rfl rfl)
theorem dX9_isFull_26 : decode cX9_isFull 26 = .ok (.iconst 1, 1) := dk_4 (dk_at dksX9_isFull_1 4 rfl rfl)
theorem dX9_isFull_27 : decode cX9_isFull 27 = .ok (.if_icmp .ne 19, 3) := dk_160 0 19 (dk_at dksX9_isFull_1 5 rfl rfl)
theorem dX9_isFull_30 : decode cX9_isFull 30 = .ok (.aload_n 0, 1) := dk_42 (dk_at dksX9_isFull_1 8 rfl rfl)
theorem dX9_isFull_31 : decode cX9_isFull 31 = .ok (.getfield 28, 3) := dk_180 0 28 (dk_at dksX9_isFull_1 9 rfl rfl)
theorem dX9_isFull_34 : decode cX9_isFull 34 = .ok (.getfield 52, 3) := dk_180 0 52 (dk_at dksX9_isFull_1 12 rfl rfl)
theorem dX9_isFull_37 : decode cX9_isFull 37 = .ok (.bipush 7, 2) := dk_16 7 (dk_at dksX9_isFull_1 15 rfl rfl)
theorem dX9_isFull_39 : decode cX9_isFull 39 = .ok (.if_icmp .ne 7, 3) := dk_160 0 7 (dk_at dksX9_isFull_1 17 rfl rfl)
theorem dX9_isFull_42 : decode cX9_isFull 42 = .ok (.iconst 1, 1) := dk_4 (dk_at dksX9_isFull_1 20 rfl rfl)
theorem dX9_isFull_43 : decode cX9_isFull 43 = .ok (.goto 4, 3) := dk_167 0 4 (dk_at dksX9_isFull_1 21 rfl rfl)
theorem dX9_isFull_46 : decode cX9_isFull 46 = .ok (.iconst 0, 1) := dk_3 (dk_at dksX9_isFull_2 0 rfl rfl)
theorem dX9_isFull_47 : decode cX9_isFull 47 = .ok (.ireturn, 1) := dk_172 (dk_at dksX9_isFull_2 1 rfl rfl)
abbrev cX9_kin : ByteArray := prog_15_method_5_code
def yX9_kin : MethodName := ⟨RX9, "kin", "()V"⟩
def dkwX9_kin_3 : List UInt8 := [29, 120, 128, 79, 42, 180, 0, 28, 180, 0, 99, 29, 92, 46, 4, 27, 120, 128, 79, 177]
abbrev dktX9_kin_3 : List UInt8 := dkwX9_kin_3 ++ []
def dkwX9_kin_2 : List UInt8 := [160, 0, 13, 187, 0, 62, 89, 5, 28, 183, 0, 64, 191, 42, 180, 0, 28, 180, 0, 99, 27, 92, 46, 4]
abbrev dktX9_kin_2 : List UInt8 := dkwX9_kin_2 ++ dktX9_kin_3
def dkwX9_kin_1 : List UInt8 := [182, 0, 55, 61, 42, 180, 0, 32, 3, 42, 180, 0, 28, 180, 0, 52, 4, 100, 182, 0, 78, 62, 27, 29]
abbrev dktX9_kin_1 : List UInt8 := dkwX9_kin_1 ++ dktX9_kin_2
def dkwX9_kin_0 : List UInt8 := [42, 180, 0, 32, 3, 42, 180, 0, 28, 180, 0, 52, 4, 100, 182, 0, 78, 60, 42, 180, 0, 32]
abbrev dktX9_kin_0 : List UInt8 := dkwX9_kin_0 ++ dktX9_kin_1
theorem dksX9_kin_0 : cX9_kin.data.toList.drop 0 = dktX9_kin_0 := by decide +kernel
theorem dksX9_kin_1 : cX9_kin.data.toList.drop 22 = dktX9_kin_1 := dk_seg dksX9_kin_0 22 rfl rfl
theorem dksX9_kin_2 : cX9_kin.data.toList.drop 46 = dktX9_kin_2 := dk_seg dksX9_kin_1 24 rfl rfl
theorem dksX9_kin_3 : cX9_kin.data.toList.drop 70 = dktX9_kin_3 := dk_seg dksX9_kin_2 24 rfl rfl
theorem dX9_kin_0 : decode cX9_kin 0 = .ok (.aload_n 0, 1) := dk_42 (dk_at dksX9_kin_0 0 rfl rfl)
theorem dX9_kin_1 : decode cX9_kin 1 = .ok (.getfield 32, 3) := dk_180 0 32 (dk_at dksX9_kin_0 1 rfl rfl)
theorem dX9_kin_4 : decode cX9_kin 4 = .ok (.iconst 0, 1) := dk_3 (dk_at dksX9_kin_0 4 rfl rfl)
theorem dX9_kin_5 : decode cX9_kin 5 = .ok (.aload_n 0, 1) := dk_42 (dk_at dksX9_kin_0 5 rfl rfl)
theorem dX9_kin_6 : decode cX9_kin 6 = .ok (.getfield 28, 3) := dk_180 0 28 (dk_at dksX9_kin_0 6 rfl rfl)
theorem dX9_kin_9 : decode cX9_kin 9 = .ok (.getfield 52, 3) := dk_180 0 52 (dk_at dksX9_kin_0 9 rfl rfl)
theorem dX9_kin_12 : decode cX9_kin 12 = .ok (.iconst 1, 1) := dk_4 (dk_at dksX9_kin_0 12 rfl rfl)
theorem dX9_kin_13 : decode cX9_kin 13 = .ok (.isub, 1) := dk_100 (dk_at dksX9_kin_0 13 rfl rfl)
theorem dX9_kin_14 : decode cX9_kin 14 = .ok (.invokevirtual 78, 3) := dk_182 0 78 (dk_at dksX9_kin_0 14 rfl rfl)
theorem dX9_kin_17 : decode cX9_kin 17 = .ok (.istore_n 1, 1) := dk_60 (dk_at dksX9_kin_0 17 rfl rfl)
theorem dX9_kin_18 : decode cX9_kin 18 = .ok (.aload_n 0, 1) := dk_42 (dk_at dksX9_kin_0 18 rfl rfl)
theorem dX9_kin_19 : decode cX9_kin 19 = .ok (.getfield 32, 3) := dk_180 0 32 (dk_at dksX9_kin_0 19 rfl rfl)
theorem dX9_kin_22 : decode cX9_kin 22 = .ok (.invokevirtual 55, 3) := dk_182 0 55 (dk_at dksX9_kin_1 0 rfl rfl)
theorem dX9_kin_25 : decode cX9_kin 25 = .ok (.istore_n 2, 1) := dk_61 (dk_at dksX9_kin_1 3 rfl rfl)
theorem dX9_kin_26 : decode cX9_kin 26 = .ok (.aload_n 0, 1) := dk_42 (dk_at dksX9_kin_1 4 rfl rfl)
theorem dX9_kin_27 : decode cX9_kin 27 = .ok (.getfield 32, 3) := dk_180 0 32 (dk_at dksX9_kin_1 5 rfl rfl)
theorem dX9_kin_30 : decode cX9_kin 30 = .ok (.iconst 0, 1) := dk_3 (dk_at dksX9_kin_1 8 rfl rfl)
theorem dX9_kin_31 : decode cX9_kin 31 = .ok (.aload_n 0, 1) := dk_42 (dk_at dksX9_kin_1 9 rfl rfl)
theorem dX9_kin_32 : decode cX9_kin 32 = .ok (.getfield 28, 3) := dk_180 0 28 (dk_at dksX9_kin_1 10 rfl rfl)
theorem dX9_kin_35 : decode cX9_kin 35 = .ok (.getfield 52, 3) := dk_180 0 52 (dk_at dksX9_kin_1 13 rfl rfl)
theorem dX9_kin_38 : decode cX9_kin 38 = .ok (.iconst 1, 1) := dk_4 (dk_at dksX9_kin_1 16 rfl rfl)
theorem dX9_kin_39 : decode cX9_kin 39 = .ok (.isub, 1) := dk_100 (dk_at dksX9_kin_1 17 rfl rfl)
theorem dX9_kin_40 : decode cX9_kin 40 = .ok (.invokevirtual 78, 3) := dk_182 0 78 (dk_at dksX9_kin_1 18 rfl rfl)
theorem dX9_kin_43 : decode cX9_kin 43 = .ok (.istore_n 3, 1) := dk_62 (dk_at dksX9_kin_1 21 rfl rfl)
theorem dX9_kin_44 : decode cX9_kin 44 = .ok (.iload_n 1, 1) := dk_27 (dk_at dksX9_kin_1 22 rfl rfl)
theorem dX9_kin_45 : decode cX9_kin 45 = .ok (.iload_n 3, 1) := dk_29 (dk_at dksX9_kin_1 23 rfl rfl)
theorem dX9_kin_46 : decode cX9_kin 46 = .ok (.if_icmp .ne 13, 3) := dk_160 0 13 (dk_at dksX9_kin_2 0 rfl rfl)
theorem dX9_kin_49 : decode cX9_kin 49 = .ok (.new 62, 3) := dk_187 0 62 (dk_at dksX9_kin_2 3 rfl rfl)
theorem dX9_kin_52 : decode cX9_kin 52 = .ok (.dup, 1) := dk_89 (dk_at dksX9_kin_2 6 rfl rfl)
theorem dX9_kin_53 : decode cX9_kin 53 = .ok (.iconst 2, 1) := dk_5 (dk_at dksX9_kin_2 7 rfl rfl)
theorem dX9_kin_54 : decode cX9_kin 54 = .ok (.iload_n 2, 1) := dk_28 (dk_at dksX9_kin_2 8 rfl rfl)
theorem dX9_kin_55 : decode cX9_kin 55 = .ok (.invokespecial 64, 3) := dk_183 0 64 (dk_at dksX9_kin_2 9 rfl rfl)
theorem dX9_kin_58 : decode cX9_kin 58 = .ok (.athrow, 1) := dk_191 (dk_at dksX9_kin_2 12 rfl rfl)
theorem dX9_kin_59 : decode cX9_kin 59 = .ok (.aload_n 0, 1) := dk_42 (dk_at dksX9_kin_2 13 rfl rfl)
theorem dX9_kin_60 : decode cX9_kin 60 = .ok (.getfield 28, 3) := dk_180 0 28 (dk_at dksX9_kin_2 14 rfl rfl)
theorem dX9_kin_63 : decode cX9_kin 63 = .ok (.getfield 99, 3) := dk_180 0 99 (dk_at dksX9_kin_2 17 rfl rfl)
theorem dX9_kin_66 : decode cX9_kin 66 = .ok (.iload_n 1, 1) := dk_27 (dk_at dksX9_kin_2 20 rfl rfl)
theorem dX9_kin_67 : decode cX9_kin 67 = .ok (.dup2, 1) := dk_92 (dk_at dksX9_kin_2 21 rfl rfl)
theorem dX9_kin_68 : decode cX9_kin 68 = .ok (.iaload, 1) := dk_46 (dk_at dksX9_kin_2 22 rfl rfl)
theorem dX9_kin_69 : decode cX9_kin 69 = .ok (.iconst 1, 1) := dk_4 (dk_at dksX9_kin_2 23 rfl rfl)
theorem dX9_kin_70 : decode cX9_kin 70 = .ok (.iload_n 3, 1) := dk_29 (dk_at dksX9_kin_3 0 rfl rfl)
theorem dX9_kin_71 : decode cX9_kin 71 = .ok (.ishl, 1) := dk_120 (dk_at dksX9_kin_3 1 rfl rfl)
theorem dX9_kin_72 : decode cX9_kin 72 = .ok (.ior, 1) := dk_128 (dk_at dksX9_kin_3 2 rfl rfl)
theorem dX9_kin_73 : decode cX9_kin 73 = .ok (.iastore, 1) := dk_79 (dk_at dksX9_kin_3 3 rfl rfl)
theorem dX9_kin_74 : decode cX9_kin 74 = .ok (.aload_n 0, 1) := dk_42 (dk_at dksX9_kin_3 4 rfl rfl)
theorem dX9_kin_75 : decode cX9_kin 75 = .ok (.getfield 28, 3) := dk_180 0 28 (dk_at dksX9_kin_3 5 rfl rfl)
theorem dX9_kin_78 : decode cX9_kin 78 = .ok (.getfield 99, 3) := dk_180 0 99 (dk_at dksX9_kin_3 8 rfl rfl)
theorem dX9_kin_81 : decode cX9_kin 81 = .ok (.iload_n 3, 1) := dk_29 (dk_at dksX9_kin_3 11 rfl rfl)
theorem dX9_kin_82 : decode cX9_kin 82 = .ok (.dup2, 1) := dk_92 (dk_at dksX9_kin_3 12 rfl rfl)
theorem dX9_kin_83 : decode cX9_kin 83 = .ok (.iaload, 1) := dk_46 (dk_at dksX9_kin_3 13 rfl rfl)
theorem dX9_kin_84 : decode cX9_kin 84 = .ok (.iconst 1, 1) := dk_4 (dk_at dksX9_kin_3 14 rfl rfl)
theorem dX9_kin_85 : decode cX9_kin 85 = .ok (.iload_n 1, 1) := dk_27 (dk_at dksX9_kin_3 15 rfl rfl)
theorem dX9_kin_86 : decode cX9_kin 86 = .ok (.ishl, 1) := dk_120 (dk_at dksX9_kin_3 16 rfl rfl)
theorem dX9_kin_87 : decode cX9_kin 87 = .ok (.ior, 1) := dk_128 (dk_at dksX9_kin_3 17 rfl rfl)
theorem dX9_kin_88 : decode cX9_kin 88 = .ok (.iastore, 1) := dk_79 (dk_at dksX9_kin_3 18 rfl rfl)
theorem dX9_kin_89 : decode cX9_kin 89 = .ok (.return_, 1) := dk_177 (dk_at dksX9_kin_3 19 rfl rfl)
theorem q99 : (Jvm.Cond.initialized "GrowingDoor$SchoolReader") ∈ lw_all := lw_g (lw_at lw_m1 14 rfl) rfl
theorem q210 : (Jvm.Cond.fieldLinkNest "GrowingDoor$SchoolReader" (74 : Nat) "GrowingDoor$School" "thick" "[I" "GrowingDoor") ∈ lw_tbl := lw_at lw_m1 125 rfl
theorem q213 : (Jvm.Cond.fieldLinkNest "GrowingDoor$SchoolReader" (82 : Nat) "GrowingDoor$School" "grows" "[I" "GrowingDoor") ∈ lw_tbl := lw_at lw_m1 128 rfl
theorem q218 : (Jvm.Cond.fieldLinkNest "GrowingDoor$SchoolReader" (85 : Nat) "GrowingDoor$School" "high" "[I" "GrowingDoor") ∈ lw_tbl := lw_at lw_m1 133 rfl
theorem q221 : (Jvm.Cond.fieldLinkNest "GrowingDoor$SchoolReader" (88 : Nat) "GrowingDoor$School" "food" "[I" "GrowingDoor") ∈ lw_tbl := lw_at lw_m1 136 rfl
theorem q223 : (Jvm.Cond.fieldLinkNest "GrowingDoor$SchoolReader" (99 : Nat) "GrowingDoor$School" "kin" "[I" "GrowingDoor") ∈ lw_tbl := lw_at lw_m1 138 rfl
theorem q227 : (Jvm.Cond.fieldLinkNest "GrowingDoor$SchoolReader" (93 : Nat) "GrowingDoor$School" "rain" "[I" "GrowingDoor") ∈ lw_tbl := lw_at lw_m1 142 rfl
theorem q230 : (Jvm.Cond.fieldLinkNest "GrowingDoor$SchoolReader" (49 : Nat) "GrowingDoor$School" "boards" "I" "GrowingDoor") ∈ lw_tbl := lw_at lw_m1 145 rfl
theorem q235 : (Jvm.Cond.fieldLinkNest "GrowingDoor$SchoolReader" (52 : Nat) "GrowingDoor$School" "boys" "I" "GrowingDoor") ∈ lw_tbl := lw_at lw_m1 150 rfl
theorem q582 : (Jvm.Cond.instantiable "GrowingDoor$SchoolReader" (4 : Nat)) ∈ lw_all := lw_g (lw_at lw_m3 17 rfl) rfl
theorem q607 : (Jvm.Cond.instanceMethod ({ cls := "GrowingDoor$SchoolReader", name := "<init>", desc := "(LGrowingDoor$Reader;)V" } : Jvm.MethodName)) ∈ lw_all := lw_g (lw_at lw_m3 42 rfl) rfl
theorem q608 : (Jvm.Cond.code ({ cls := "GrowingDoor$SchoolReader", name := "<init>", desc := "(LGrowingDoor$Reader;)V" } : Jvm.MethodName) prog_15_method_1_code (2 : Nat) (Option.none : Option Jvm.ClassFile.FieldType)) ∈ lw_all := lw_g (lw_at lw_m3 43 rfl) rfl
theorem q609 : (Jvm.Cond.methodLink "GrowingDoor$SchoolReader" (3 : Nat) ({ cls := "java/lang/Object", name := "<init>", desc := "()V" } : Jvm.MethodName)) ∈ lw_all := lw_g (lw_at lw_m3 44 rfl) rfl
theorem q610 : (Jvm.Cond.classLink "GrowingDoor$SchoolReader" (9 : Nat) "java/lang/String") ∈ lw_all := lw_g (lw_at lw_m3 45 rfl) rfl
theorem q612 : (Jvm.Cond.stringRef "GrowingDoor$SchoolReader" (11 : Nat) "board") ∈ lw_tbl := lw_at lw_m3 47 rfl
theorem q613 : (Jvm.Cond.stringRef "GrowingDoor$SchoolReader" (13 : Nat) "boy") ∈ lw_tbl := lw_at lw_m3 48 rfl
theorem q614 : (Jvm.Cond.stringRef "GrowingDoor$SchoolReader" (15 : Nat) "kin") ∈ lw_tbl := lw_at lw_m3 49 rfl
theorem q615 : (Jvm.Cond.stringRef "GrowingDoor$SchoolReader" (17 : Nat) "rain") ∈ lw_tbl := lw_at lw_m3 50 rfl
theorem q616 : (Jvm.Cond.classLink "GrowingDoor$SchoolReader" (25 : Nat) "GrowingDoor$School") ∈ lw_all := lw_g (lw_at lw_m3 51 rfl) rfl
theorem q617 : (Jvm.Cond.methodLink "GrowingDoor$SchoolReader" (27 : Nat) ({ cls := "GrowingDoor$School", name := "<init>", desc := "()V" } : Jvm.MethodName)) ∈ lw_all := lw_g (lw_at lw_m3 52 rfl) rfl
theorem q618 : (Jvm.Cond.fieldLink "GrowingDoor$SchoolReader" (19 : Nat) "GrowingDoor$SchoolReader" "words" "[Ljava/lang/String;") ∈ lw_all := lw_g (lw_at lw_m3 53 rfl) rfl
theorem q619 : (Jvm.Cond.fieldLink "GrowingDoor$SchoolReader" (32 : Nat) "GrowingDoor$SchoolReader" "in" "LGrowingDoor$Reader;") ∈ lw_all := lw_g (lw_at lw_m3 54 rfl) rfl
theorem q620 : (Jvm.Cond.fieldLink "GrowingDoor$SchoolReader" (28 : Nat) "GrowingDoor$SchoolReader" "school" "LGrowingDoor$School;") ∈ lw_all := lw_g (lw_at lw_m3 55 rfl) rfl
theorem q621 : (Jvm.Cond.fieldLink "GrowingDoor$SchoolReader" (45 : Nat) "GrowingDoor$SchoolReader" "clauses" "I") ∈ lw_all := lw_g (lw_at lw_m3 56 rfl) rfl
theorem q622 : (Jvm.Cond.laysFinal "GrowingDoor$SchoolReader" "GrowingDoor$SchoolReader" "words" "[Ljava/lang/String;") ∈ lw_all := lw_g (lw_at lw_m3 57 rfl) rfl
theorem q623 : (Jvm.Cond.soleField "GrowingDoor$SchoolReader" "words") ∈ lw_all := lw_g (lw_at lw_m3 58 rfl) rfl
theorem q624 : (Jvm.Cond.laysFinal "GrowingDoor$SchoolReader" "GrowingDoor$SchoolReader" "in" "LGrowingDoor$Reader;") ∈ lw_all := lw_g (lw_at lw_m3 59 rfl) rfl
theorem q625 : (Jvm.Cond.soleField "GrowingDoor$SchoolReader" "in") ∈ lw_all := lw_g (lw_at lw_m3 60 rfl) rfl
theorem q626 : (Jvm.Cond.laysFinal "GrowingDoor$SchoolReader" "GrowingDoor$SchoolReader" "school" "LGrowingDoor$School;") ∈ lw_all := lw_g (lw_at lw_m3 61 rfl) rfl
theorem q627 : (Jvm.Cond.soleField "GrowingDoor$SchoolReader" "school") ∈ lw_all := lw_g (lw_at lw_m3 62 rfl) rfl
theorem q628 : (Jvm.Cond.lays "GrowingDoor$SchoolReader" "GrowingDoor$SchoolReader" "clauses" "I") ∈ lw_all := lw_g (lw_at lw_m3 63 rfl) rfl
theorem q629 : (Jvm.Cond.soleField "GrowingDoor$SchoolReader" "clauses") ∈ lw_all := lw_g (lw_at lw_m3 64 rfl) rfl
theorem q630 : (Jvm.Cond.superclass "GrowingDoor$SchoolReader" "java/lang/Object") ∈ lw_all := lw_g (lw_at lw_m3 65 rfl) rfl
theorem q632 : (Jvm.Cond.instanceMethod ({ cls := "GrowingDoor$SchoolReader", name := "reads", desc := "()LGrowingDoor$School;" } : Jvm.MethodName)) ∈ lw_all := lw_g (lw_at lw_m3 67 rfl) rfl
theorem q633 : (Jvm.Cond.selects "GrowingDoor$SchoolReader" ({ cls := "GrowingDoor$SchoolReader", name := "reads", desc := "()LGrowingDoor$School;" } : Jvm.MethodName) ({ cls := "GrowingDoor$SchoolReader", name := "reads", desc := "()LGrowingDoor$School;" } : Jvm.MethodName)) ∈ lw_all := lw_g (lw_at lw_m3 68 rfl) rfl
theorem q634 : (Jvm.Cond.code ({ cls := "GrowingDoor$SchoolReader", name := "reads", desc := "()LGrowingDoor$School;" } : Jvm.MethodName) prog_15_method_2_code (1 : Nat) (Option.some (Jvm.ClassFile.FieldType.object "GrowingDoor$School"))) ∈ lw_all := lw_g (lw_at lw_m3 69 rfl) rfl
theorem q635 : (Jvm.Cond.methodLink "GrowingDoor$SchoolReader" (36 : Nat) ({ cls := "GrowingDoor$Reader", name := "now", desc := "()I" } : Jvm.MethodName)) ∈ lw_all := lw_g (lw_at lw_m3 70 rfl) rfl
theorem q643 : (Jvm.Cond.methodLink "GrowingDoor$SchoolReader" (42 : Nat) ({ cls := "GrowingDoor$SchoolReader", name := "clause", desc := "()V" } : Jvm.MethodName)) ∈ lw_all := lw_g (lw_at lw_m3 78 rfl) rfl
theorem q644 : (Jvm.Cond.privateMethod ({ cls := "GrowingDoor$SchoolReader", name := "clause", desc := "()V" } : Jvm.MethodName)) ∈ lw_tbl := lw_at lw_m3 79 rfl
theorem q645 : (Jvm.Cond.instanceMethod ({ cls := "GrowingDoor$SchoolReader", name := "clause", desc := "()V" } : Jvm.MethodName)) ∈ lw_all := lw_g (lw_at lw_m3 80 rfl) rfl
theorem q646 : (Jvm.Cond.code ({ cls := "GrowingDoor$SchoolReader", name := "clause", desc := "()V" } : Jvm.MethodName) prog_15_method_4_code (4 : Nat) (Option.none : Option Jvm.ClassFile.FieldType)) ∈ lw_all := lw_g (lw_at lw_m3 81 rfl) rfl
theorem q647 : (Jvm.Cond.methodLink "GrowingDoor$SchoolReader" (55 : Nat) ({ cls := "GrowingDoor$Reader", name := "place", desc := "()I" } : Jvm.MethodName)) ∈ lw_all := lw_g (lw_at lw_m3 82 rfl) rfl
theorem q652 : (Jvm.Cond.methodLink "GrowingDoor$SchoolReader" (58 : Nat) ({ cls := "GrowingDoor$Reader", name := "which", desc := "([Ljava/lang/String;)I" } : Jvm.MethodName)) ∈ lw_all := lw_g (lw_at lw_m3 87 rfl) rfl
theorem q712 : (Jvm.Cond.classLink "GrowingDoor$SchoolReader" (62 : Nat) "GrowingDoor$Wrong") ∈ lw_all := lw_g (lw_at lw_m3 147 rfl) rfl
theorem q721 : (Jvm.Cond.methodLink "GrowingDoor$SchoolReader" (64 : Nat) ({ cls := "GrowingDoor$Wrong", name := "<init>", desc := "(II)V" } : Jvm.MethodName)) ∈ lw_all := lw_g (lw_at lw_m3 156 rfl) rfl
theorem q740 : (Jvm.Cond.methodLink "GrowingDoor$SchoolReader" (67 : Nat) ({ cls := "GrowingDoor$SchoolReader", name := "isFull", desc := "(I)Z" } : Jvm.MethodName)) ∈ lw_all := lw_g (lw_at lw_m3 175 rfl) rfl
theorem q741 : (Jvm.Cond.privateMethod ({ cls := "GrowingDoor$SchoolReader", name := "isFull", desc := "(I)Z" } : Jvm.MethodName)) ∈ lw_tbl := lw_at lw_m3 176 rfl
theorem q742 : (Jvm.Cond.instanceMethod ({ cls := "GrowingDoor$SchoolReader", name := "isFull", desc := "(I)Z" } : Jvm.MethodName)) ∈ lw_all := lw_g (lw_at lw_m3 177 rfl) rfl
theorem q743 : (Jvm.Cond.code ({ cls := "GrowingDoor$SchoolReader", name := "isFull", desc := "(I)Z" } : Jvm.MethodName) prog_15_method_3_code (2 : Nat) (Option.some Jvm.ClassFile.FieldType.boolean)) ∈ lw_all := lw_g (lw_at lw_m3 178 rfl) rfl
theorem q744 : (Jvm.Cond.methodLink "GrowingDoor$SchoolReader" (71 : Nat) ({ cls := "GrowingDoor$Reader", name := "skipsWord", desc := "()V" } : Jvm.MethodName)) ∈ lw_all := lw_g (lw_at lw_m3 179 rfl) rfl
theorem q748 : (Jvm.Cond.methodLink "GrowingDoor$SchoolReader" (78 : Nat) ({ cls := "GrowingDoor$Reader", name := "number", desc := "(II)I" } : Jvm.MethodName)) ∈ lw_all := lw_g (lw_at lw_m3 183 rfl) rfl
theorem q761 : (Jvm.Cond.methodLink "GrowingDoor$SchoolReader" (91 : Nat) ({ cls := "GrowingDoor$SchoolReader", name := "kin", desc := "()V" } : Jvm.MethodName)) ∈ lw_all := lw_g (lw_at lw_m3 196 rfl) rfl
theorem q762 : (Jvm.Cond.privateMethod ({ cls := "GrowingDoor$SchoolReader", name := "kin", desc := "()V" } : Jvm.MethodName)) ∈ lw_tbl := lw_at lw_m3 197 rfl
theorem q763 : (Jvm.Cond.instanceMethod ({ cls := "GrowingDoor$SchoolReader", name := "kin", desc := "()V" } : Jvm.MethodName)) ∈ lw_all := lw_g (lw_at lw_m3 198 rfl) rfl
theorem q764 : (Jvm.Cond.code ({ cls := "GrowingDoor$SchoolReader", name := "kin", desc := "()V" } : Jvm.MethodName) prog_15_method_5_code (4 : Nat) (Option.none : Option Jvm.ClassFile.FieldType)) ∈ lw_all := lw_g (lw_at lw_m3 199 rfl) rfl
theorem q765 : (Jvm.Cond.methodLink "GrowingDoor$SchoolReader" (95 : Nat) ({ cls := "GrowingDoor$Reader", name := "sign", desc := "(C)V" } : Jvm.MethodName)) ∈ lw_all := lw_g (lw_at lw_m3 200 rfl) rfl
theorem q2063 : (Jvm.Cond.castable "GrowingDoor$SchoolReader" "java/lang/Object") ∈ lw_tbl := lw_at lw_m9 58 rfl
theorem in_X9 : ∀ w ∈ wsX90, w ∈ lw_all := lw_in wsX90 [622, 624, 626, 628] (by decide +kernel) (by decide +kernel)
/-! GrowingDoor$Reader -/
set_option maxRecDepth 100000
def RX10 : String := "GrowingDoor$Reader"
def TX10 : u_T := fun k => match k with
  | 0 => ("GrowingDoor$Reader", "bytes", "[B", true)
  | 1 => ("GrowingDoor$Reader", "end", "I", true)
  | 2 => ("GrowingDoor$Reader", "at", "I", false)
  | _ => ("GrowingDoor$Reader", "open", "I", false)
def tyX10 : Nat → FieldType := fun k => match k with
  | 0 => .array .byte
  | 1 => .int
  | 2 => .int
  | _ => .int
abbrev wsX100 : List Cond := u_ws RX10 TX10 4
theorem nmX10 : ∀ a, a < 4 → ∀ b, b < 4 → a ≠ b → (TX10 a).2.1 ≠ (TX10 b).2.1 := by decide +kernel
theorem tyX10_ok : ∀ k, k < 4 → parseFieldDescriptor (TX10 k).2.2.1 = some (tyX10 k) := by decide +kernel
abbrev cX10_init : ByteArray := prog_11_method_1_code
def yX10_init : MethodName := ⟨RX10, "<init>", "([BI)V"⟩
def dkwX10_init_0 : List UInt8 := [42, 183, 0, 3, 42, 43, 181, 0, 9, 42, 28, 181, 0, 15, 177]
abbrev dktX10_init_0 : List UInt8 := dkwX10_init_0 ++ []
theorem dksX10_init_0 : cX10_init.data.toList.drop 0 = dktX10_init_0 := by decide +kernel
theorem dX10_init_0 : decode cX10_init 0 = .ok (.aload_n 0, 1) := dk_42 (dk_at dksX10_init_0 0 rfl rfl)
theorem dX10_init_1 : decode cX10_init 1 = .ok (.invokespecial 3, 3) := dk_183 0 3 (dk_at dksX10_init_0 1 rfl rfl)
theorem dX10_init_4 : decode cX10_init 4 = .ok (.aload_n 0, 1) := dk_42 (dk_at dksX10_init_0 4 rfl rfl)
theorem dX10_init_5 : decode cX10_init 5 = .ok (.aload_n 1, 1) := dk_43 (dk_at dksX10_init_0 5 rfl rfl)
theorem dX10_init_6 : decode cX10_init 6 = .ok (.putfield 9, 3) := dk_181 0 9 (dk_at dksX10_init_0 6 rfl rfl)
theorem dX10_init_9 : decode cX10_init 9 = .ok (.aload_n 0, 1) := dk_42 (dk_at dksX10_init_0 9 rfl rfl)
theorem dX10_init_10 : decode cX10_init 10 = .ok (.iload_n 2, 1) := dk_28 (dk_at dksX10_init_0 10 rfl rfl)
theorem dX10_init_11 : decode cX10_init 11 = .ok (.putfield 15, 3) := dk_181 0 15 (dk_at dksX10_init_0 11 rfl rfl)
theorem dX10_init_14 : decode cX10_init 14 = .ok (.return_, 1) := dk_177 (dk_at dksX10_init_0 14 rfl rfl)
abbrev cX10_now : ByteArray := prog_11_method_3_code
def yX10_now : MethodName := ⟨RX10, "now", "()I"⟩
def dkwX10_now_1 : List UInt8 := [167, 255, 233, 42, 42, 180, 0, 19, 182, 0, 22, 172]
abbrev dktX10_now_1 : List UInt8 := dkwX10_now_1 ++ []
def dkwX10_now_0 : List UInt8 := [42, 42, 180, 0, 19, 182, 0, 22, 16, 32, 160, 0, 16, 42, 89, 180, 0, 19, 4, 96, 181, 0, 19]
abbrev dktX10_now_0 : List UInt8 := dkwX10_now_0 ++ dktX10_now_1
theorem dksX10_now_0 : cX10_now.data.toList.drop 0 = dktX10_now_0 := by decide +kernel
theorem dksX10_now_1 : cX10_now.data.toList.drop 23 = dktX10_now_1 := dk_seg dksX10_now_0 23 rfl rfl
theorem dX10_now_0 : decode cX10_now 0 = .ok (.aload_n 0, 1) := dk_42 (dk_at dksX10_now_0 0 rfl rfl)
theorem dX10_now_1 : decode cX10_now 1 = .ok (.aload_n 0, 1) := dk_42 (dk_at dksX10_now_0 1 rfl rfl)
theorem dX10_now_2 : decode cX10_now 2 = .ok (.getfield 19, 3) := dk_180 0 19 (dk_at dksX10_now_0 2 rfl rfl)
theorem dX10_now_5 : decode cX10_now 5 = .ok (.invokevirtual 22, 3) := dk_182 0 22 (dk_at dksX10_now_0 5 rfl rfl)
theorem dX10_now_8 : decode cX10_now 8 = .ok (.bipush 32, 2) := dk_16 32 (dk_at dksX10_now_0 8 rfl rfl)
theorem dX10_now_10 : decode cX10_now 10 = .ok (.if_icmp .ne 16, 3) := dk_160 0 16 (dk_at dksX10_now_0 10 rfl rfl)
theorem dX10_now_13 : decode cX10_now 13 = .ok (.aload_n 0, 1) := dk_42 (dk_at dksX10_now_0 13 rfl rfl)
theorem dX10_now_14 : decode cX10_now 14 = .ok (.dup, 1) := dk_89 (dk_at dksX10_now_0 14 rfl rfl)
theorem dX10_now_15 : decode cX10_now 15 = .ok (.getfield 19, 3) := dk_180 0 19 (dk_at dksX10_now_0 15 rfl rfl)
theorem dX10_now_18 : decode cX10_now 18 = .ok (.iconst 1, 1) := dk_4 (dk_at dksX10_now_0 18 rfl rfl)
theorem dX10_now_19 : decode cX10_now 19 = .ok (.iadd, 1) := dk_96 (dk_at dksX10_now_0 19 rfl rfl)
theorem dX10_now_20 : decode cX10_now 20 = .ok (.putfield 19, 3) := dk_181 0 19 (dk_at dksX10_now_0 20 rfl rfl)
theorem dX10_now_23 : decode cX10_now 23 = .ok (.goto (-23), 3) := dk_167 255 233 (dk_at dksX10_now_1 0 rfl rfl)
theorem dX10_now_26 : decode cX10_now 26 = .ok (.aload_n 0, 1) := dk_42 (dk_at dksX10_now_1 3 rfl rfl)
theorem dX10_now_27 : decode cX10_now 27 = .ok (.aload_n 0, 1) := dk_42 (dk_at dksX10_now_1 4 rfl rfl)
theorem dX10_now_28 : decode cX10_now 28 = .ok (.getfield 19, 3) := dk_180 0 19 (dk_at dksX10_now_1 5 rfl rfl)
theorem dX10_now_31 : decode cX10_now 31 = .ok (.invokevirtual 22, 3) := dk_182 0 22 (dk_at dksX10_now_1 8 rfl rfl)
theorem dX10_now_34 : decode cX10_now 34 = .ok (.ireturn, 1) := dk_172 (dk_at dksX10_now_1 11 rfl rfl)
abbrev cX10_byteAt : ByteArray := prog_11_method_2_code
def yX10_byteAt : MethodName := ⟨RX10, "byteAt", "(I)I"⟩
def dkwX10_byteAt_0 : List UInt8 := [27, 42, 180, 0, 15, 162, 0, 16, 42, 180, 0, 9, 27, 51, 17, 0, 255, 126, 167, 0, 4, 2, 172]
abbrev dktX10_byteAt_0 : List UInt8 := dkwX10_byteAt_0 ++ []
theorem dksX10_byteAt_0 : cX10_byteAt.data.toList.drop 0 = dktX10_byteAt_0 := by decide +kernel
theorem dX10_byteAt_0 : decode cX10_byteAt 0 = .ok (.iload_n 1, 1) := dk_27 (dk_at dksX10_byteAt_0 0 rfl rfl)
theorem dX10_byteAt_1 : decode cX10_byteAt 1 = .ok (.aload_n 0, 1) := dk_42 (dk_at dksX10_byteAt_0 1 rfl rfl)
theorem dX10_byteAt_2 : decode cX10_byteAt 2 = .ok (.getfield 15, 3) := dk_180 0 15 (dk_at dksX10_byteAt_0 2 rfl rfl)
theorem dX10_byteAt_5 : decode cX10_byteAt 5 = .ok (.if_icmp .ge 16, 3) := dk_162 0 16 (dk_at dksX10_byteAt_0 5 rfl rfl)
theorem dX10_byteAt_8 : decode cX10_byteAt 8 = .ok (.aload_n 0, 1) := dk_42 (dk_at dksX10_byteAt_0 8 rfl rfl)
theorem dX10_byteAt_9 : decode cX10_byteAt 9 = .ok (.getfield 9, 3) := dk_180 0 9 (dk_at dksX10_byteAt_0 9 rfl rfl)
theorem dX10_byteAt_12 : decode cX10_byteAt 12 = .ok (.iload_n 1, 1) := dk_27 (dk_at dksX10_byteAt_0 12 rfl rfl)
theorem dX10_byteAt_13 : decode cX10_byteAt 13 = .ok (.baload, 1) := dk_51 (dk_at dksX10_byteAt_0 13 rfl rfl)
theorem dX10_byteAt_14 : decode cX10_byteAt 14 = .ok (.sipush 255, 3) := dk_17 0 255 (dk_at dksX10_byteAt_0 14 rfl rfl)
theorem dX10_byteAt_17 : decode cX10_byteAt 17 = .ok (.iand, 1) := dk_126 (dk_at dksX10_byteAt_0 17 rfl rfl)
theorem dX10_byteAt_18 : decode cX10_byteAt 18 = .ok (.goto 4, 3) := dk_167 0 4 (dk_at dksX10_byteAt_0 18 rfl rfl)
theorem dX10_byteAt_21 : decode cX10_byteAt 21 = .ok (.iconst (-1), 1) := dk_2 (dk_at dksX10_byteAt_0 21 rfl rfl)
theorem dX10_byteAt_22 : decode cX10_byteAt 22 = .ok (.ireturn, 1) := dk_172 (dk_at dksX10_byteAt_0 22 rfl rfl)
abbrev cX10_place : ByteArray := prog_11_method_4_code
def yX10_place : MethodName := ⟨RX10, "place", "()I"⟩
def dkwX10_place_0 : List UInt8 := [42, 182, 0, 26, 87, 42, 180, 0, 19, 172]
abbrev dktX10_place_0 : List UInt8 := dkwX10_place_0 ++ []
theorem dksX10_place_0 : cX10_place.data.toList.drop 0 = dktX10_place_0 := by decide +kernel
theorem dX10_place_0 : decode cX10_place 0 = .ok (.aload_n 0, 1) := dk_42 (dk_at dksX10_place_0 0 rfl rfl)
theorem dX10_place_1 : decode cX10_place 1 = .ok (.invokevirtual 26, 3) := dk_182 0 26 (dk_at dksX10_place_0 1 rfl rfl)
theorem dX10_place_4 : decode cX10_place 4 = .ok (.pop, 1) := dk_87 (dk_at dksX10_place_0 4 rfl rfl)
theorem dX10_place_5 : decode cX10_place 5 = .ok (.aload_n 0, 1) := dk_42 (dk_at dksX10_place_0 5 rfl rfl)
theorem dX10_place_6 : decode cX10_place 6 = .ok (.getfield 19, 3) := dk_180 0 19 (dk_at dksX10_place_0 6 rfl rfl)
theorem dX10_place_9 : decode cX10_place 9 = .ok (.ireturn, 1) := dk_172 (dk_at dksX10_place_0 9 rfl rfl)
abbrev cX10_which : ByteArray := prog_11_method_8_code
def yX10_which : MethodName := ⟨RX10, "which", "([Ljava/lang/String;)I"⟩
def dkwX10_which_1 : List UInt8 := [167, 255, 235, 2, 172]
abbrev dktX10_which_1 : List UInt8 := dkwX10_which_1 ++ []
def dkwX10_which_0 : List UInt8 := [3, 61, 28, 43, 190, 162, 0, 21, 42, 43, 28, 50, 182, 0, 46, 153, 0, 5, 28, 172, 132, 2, 1]
abbrev dktX10_which_0 : List UInt8 := dkwX10_which_0 ++ dktX10_which_1
theorem dksX10_which_0 : cX10_which.data.toList.drop 0 = dktX10_which_0 := by decide +kernel
theorem dksX10_which_1 : cX10_which.data.toList.drop 23 = dktX10_which_1 := dk_seg dksX10_which_0 23 rfl rfl
theorem dX10_which_0 : decode cX10_which 0 = .ok (.iconst 0, 1) := dk_3 (dk_at dksX10_which_0 0 rfl rfl)
theorem dX10_which_1 : decode cX10_which 1 = .ok (.istore_n 2, 1) := dk_61 (dk_at dksX10_which_0 1 rfl rfl)
theorem dX10_which_2 : decode cX10_which 2 = .ok (.iload_n 2, 1) := dk_28 (dk_at dksX10_which_0 2 rfl rfl)
theorem dX10_which_3 : decode cX10_which 3 = .ok (.aload_n 1, 1) := dk_43 (dk_at dksX10_which_0 3 rfl rfl)
theorem dX10_which_4 : decode cX10_which 4 = .ok (.arraylength, 1) := dk_190 (dk_at dksX10_which_0 4 rfl rfl)
theorem dX10_which_5 : decode cX10_which 5 = .ok (.if_icmp .ge 21, 3) := dk_162 0 21 (dk_at dksX10_which_0 5 rfl rfl)
theorem dX10_which_8 : decode cX10_which 8 = .ok (.aload_n 0, 1) := dk_42 (dk_at dksX10_which_0 8 rfl rfl)
theorem dX10_which_9 : decode cX10_which 9 = .ok (.aload_n 1, 1) := dk_43 (dk_at dksX10_which_0 9 rfl rfl)
theorem dX10_which_10 : decode cX10_which 10 = .ok (.iload_n 2, 1) := dk_28 (dk_at dksX10_which_0 10 rfl rfl)
theorem dX10_which_11 : decode cX10_which 11 = .ok (.aaload, 1) := dk_50 (dk_at dksX10_which_0 11 rfl rfl)
theorem dX10_which_12 : decode cX10_which 12 = .ok (.invokevirtual 46, 3) := dk_182 0 46 (dk_at dksX10_which_0 12 rfl rfl)
theorem dX10_which_15 : decode cX10_which 15 = .ok (.ifCond .eq 5, 3) := dk_153 0 5 (dk_at dksX10_which_0 15 rfl rfl)
theorem dX10_which_18 : decode cX10_which 18 = .ok (.iload_n 2, 1) := dk_28 (dk_at dksX10_which_0 18 rfl rfl)
theorem dX10_which_19 : decode cX10_which 19 = .ok (.ireturn, 1) := dk_172 (dk_at dksX10_which_0 19 rfl rfl)
theorem dX10_which_20 : decode cX10_which 20 = .ok (.iinc 2 1, 3) := dk_132 2 1 (dk_at dksX10_which_0 20 rfl rfl)
theorem dX10_which_23 : decode cX10_which 23 = .ok (.goto (-21), 3) := dk_167 255 235 (dk_at dksX10_which_1 0 rfl rfl)
theorem dX10_which_26 : decode cX10_which 26 = .ok (.iconst (-1), 1) := dk_2 (dk_at dksX10_which_1 3 rfl rfl)
theorem dX10_which_27 : decode cX10_which 27 = .ok (.ireturn, 1) := dk_172 (dk_at dksX10_which_1 4 rfl rfl)
abbrev cX10_isWord : ByteArray := prog_11_method_7_code
def yX10_isWord : MethodName := ⟨RX10, "isWord", "(Ljava/lang/String;)Z"⟩
def dkwX10_isWord_3 : List UInt8 := [172]
abbrev dktX10_isWord_3 : List UInt8 := dkwX10_isWord_3 ++ []
def dkwX10_isWord_2 : List UInt8 := [21, 4, 96, 182, 0, 22, 43, 21, 4, 182, 0, 42, 159, 0, 5, 3, 172, 132, 4, 1, 167, 255, 228, 4]
abbrev dktX10_isWord_2 : List UInt8 := dkwX10_isWord_2 ++ dktX10_isWord_3
def dkwX10_isWord_1 : List UInt8 := [167, 255, 240, 29, 43, 182, 0, 37, 159, 0, 5, 3, 172, 3, 54, 4, 21, 4, 29, 162, 0, 28, 42, 28]
abbrev dktX10_isWord_1 : List UInt8 := dkwX10_isWord_1 ++ dktX10_isWord_2
def dkwX10_isWord_0 : List UInt8 := [42, 182, 0, 30, 61, 3, 62, 42, 28, 29, 96, 182, 0, 22, 184, 0, 33, 153, 0, 9, 132, 3, 1]
abbrev dktX10_isWord_0 : List UInt8 := dkwX10_isWord_0 ++ dktX10_isWord_1
theorem dksX10_isWord_0 : cX10_isWord.data.toList.drop 0 = dktX10_isWord_0 := by decide +kernel
theorem dksX10_isWord_1 : cX10_isWord.data.toList.drop 23 = dktX10_isWord_1 := dk_seg dksX10_isWord_0 23 rfl rfl
theorem dksX10_isWord_2 : cX10_isWord.data.toList.drop 47 = dktX10_isWord_2 := dk_seg dksX10_isWord_1 24 rfl rfl
theorem dksX10_isWord_3 : cX10_isWord.data.toList.drop 71 = dktX10_isWord_3 := dk_seg dksX10_isWord_2 24 rfl rfl
theorem dX10_isWord_0 : decode cX10_isWord 0 = .ok (.aload_n 0, 1) := dk_42 (dk_at dksX10_isWord_0 0 rfl rfl)
theorem dX10_isWord_1 : decode cX10_isWord 1 = .ok (.invokevirtual 30, 3) := dk_182 0 30 (dk_at dksX10_isWord_0 1 rfl rfl)
theorem dX10_isWord_4 : decode cX10_isWord 4 = .ok (.istore_n 2, 1) := dk_61 (dk_at dksX10_isWord_0 4 rfl rfl)
theorem dX10_isWord_5 : decode cX10_isWord 5 = .ok (.iconst 0, 1) := dk_3 (dk_at dksX10_isWord_0 5 rfl rfl)
theorem dX10_isWord_6 : decode cX10_isWord 6 = .ok (.istore_n 3, 1) := dk_62 (dk_at dksX10_isWord_0 6 rfl rfl)
theorem dX10_isWord_7 : decode cX10_isWord 7 = .ok (.aload_n 0, 1) := dk_42 (dk_at dksX10_isWord_0 7 rfl rfl)
theorem dX10_isWord_8 : decode cX10_isWord 8 = .ok (.iload_n 2, 1) := dk_28 (dk_at dksX10_isWord_0 8 rfl rfl)
theorem dX10_isWord_9 : decode cX10_isWord 9 = .ok (.iload_n 3, 1) := dk_29 (dk_at dksX10_isWord_0 9 rfl rfl)
theorem dX10_isWord_10 : decode cX10_isWord 10 = .ok (.iadd, 1) := dk_96 (dk_at dksX10_isWord_0 10 rfl rfl)
theorem dX10_isWord_11 : decode cX10_isWord 11 = .ok (.invokevirtual 22, 3) := dk_182 0 22 (dk_at dksX10_isWord_0 11 rfl rfl)
theorem dX10_isWord_14 : decode cX10_isWord 14 = .ok (.invokestatic 33, 3) := dk_184 0 33 (dk_at dksX10_isWord_0 14 rfl rfl)
theorem dX10_isWord_17 : decode cX10_isWord 17 = .ok (.ifCond .eq 9, 3) := dk_153 0 9 (dk_at dksX10_isWord_0 17 rfl rfl)
theorem dX10_isWord_20 : decode cX10_isWord 20 = .ok (.iinc 3 1, 3) := dk_132 3 1 (dk_at dksX10_isWord_0 20 rfl rfl)
theorem dX10_isWord_23 : decode cX10_isWord 23 = .ok (.goto (-16), 3) := dk_167 255 240 (dk_at dksX10_isWord_1 0 rfl rfl)
theorem dX10_isWord_26 : decode cX10_isWord 26 = .ok (.iload_n 3, 1) := dk_29 (dk_at dksX10_isWord_1 3 rfl rfl)
theorem dX10_isWord_27 : decode cX10_isWord 27 = .ok (.aload_n 1, 1) := dk_43 (dk_at dksX10_isWord_1 4 rfl rfl)
theorem dX10_isWord_28 : decode cX10_isWord 28 = .ok (.invokevirtual 37, 3) := dk_182 0 37 (dk_at dksX10_isWord_1 5 rfl rfl)
theorem dX10_isWord_31 : decode cX10_isWord 31 = .ok (.if_icmp .eq 5, 3) := dk_159 0 5 (dk_at dksX10_isWord_1 8 rfl rfl)
theorem dX10_isWord_34 : decode cX10_isWord 34 = .ok (.iconst 0, 1) := dk_3 (dk_at dksX10_isWord_1 11 rfl rfl)
theorem dX10_isWord_35 : decode cX10_isWord 35 = .ok (.ireturn, 1) := dk_172 (dk_at dksX10_isWord_1 12 rfl rfl)
theorem dX10_isWord_36 : decode cX10_isWord 36 = .ok (.iconst 0, 1) := dk_3 (dk_at dksX10_isWord_1 13 rfl rfl)
theorem dX10_isWord_37 : decode cX10_isWord 37 = .ok (.istore 4, 2) := dk_54 4 (dk_at dksX10_isWord_1 14 rfl rfl)
theorem dX10_isWord_39 : decode cX10_isWord 39 = .ok (.iload 4, 2) := dk_21 4 (dk_at dksX10_isWord_1 16 rfl rfl)
theorem dX10_isWord_41 : decode cX10_isWord 41 = .ok (.iload_n 3, 1) := dk_29 (dk_at dksX10_isWord_1 18 rfl rfl)
theorem dX10_isWord_42 : decode cX10_isWord 42 = .ok (.if_icmp .ge 28, 3) := dk_162 0 28 (dk_at dksX10_isWord_1 19 rfl rfl)
theorem dX10_isWord_45 : decode cX10_isWord 45 = .ok (.aload_n 0, 1) := dk_42 (dk_at dksX10_isWord_1 22 rfl rfl)
theorem dX10_isWord_46 : decode cX10_isWord 46 = .ok (.iload_n 2, 1) := dk_28 (dk_at dksX10_isWord_1 23 rfl rfl)
theorem dX10_isWord_47 : decode cX10_isWord 47 = .ok (.iload 4, 2) := dk_21 4 (dk_at dksX10_isWord_2 0 rfl rfl)
theorem dX10_isWord_49 : decode cX10_isWord 49 = .ok (.iadd, 1) := dk_96 (dk_at dksX10_isWord_2 2 rfl rfl)
theorem dX10_isWord_50 : decode cX10_isWord 50 = .ok (.invokevirtual 22, 3) := dk_182 0 22 (dk_at dksX10_isWord_2 3 rfl rfl)
theorem dX10_isWord_53 : decode cX10_isWord 53 = .ok (.aload_n 1, 1) := dk_43 (dk_at dksX10_isWord_2 6 rfl rfl)
theorem dX10_isWord_54 : decode cX10_isWord 54 = .ok (.iload 4, 2) := dk_21 4 (dk_at dksX10_isWord_2 7 rfl rfl)
theorem dX10_isWord_56 : decode cX10_isWord 56 = .ok (.invokevirtual 42, 3) := dk_182 0 42 (dk_at dksX10_isWord_2 9 rfl rfl)
theorem dX10_isWord_59 : decode cX10_isWord 59 = .ok (.if_icmp .eq 5, 3) := dk_159 0 5 (dk_at dksX10_isWord_2 12 rfl rfl)
theorem dX10_isWord_62 : decode cX10_isWord 62 = .ok (.iconst 0, 1) := dk_3 (dk_at dksX10_isWord_2 15 rfl rfl)
theorem dX10_isWord_63 : decode cX10_isWord 63 = .ok (.ireturn, 1) := dk_172 (dk_at dksX10_isWord_2 16 rfl rfl)
theorem dX10_isWord_64 : decode cX10_isWord 64 = .ok (.iinc 4 1, 3) := dk_132 4 1 (dk_at dksX10_isWord_2 17 rfl rfl)
theorem dX10_isWord_67 : decode cX10_isWord 67 = .ok (.goto (-28), 3) := dk_167 255 228 (dk_at dksX10_isWord_2 20 rfl rfl)
theorem dX10_isWord_70 : decode cX10_isWord 70 = .ok (.iconst 1, 1) := dk_4 (dk_at dksX10_isWord_2 23 rfl rfl)
theorem dX10_isWord_71 : decode cX10_isWord 71 = .ok (.ireturn, 1) := dk_172 (dk_at dksX10_isWord_3 0 rfl rfl)
abbrev cX10_isSmall : ByteArray := prog_11_method_5_code
def yX10_isSmall : MethodName := ⟨RX10, "isSmall", "(I)Z"⟩
def dkwX10_isSmall_0 : List UInt8 := [26, 16, 97, 161, 0, 13, 26, 16, 122, 163, 0, 7, 4, 167, 0, 4, 3, 172]
abbrev dktX10_isSmall_0 : List UInt8 := dkwX10_isSmall_0 ++ []
theorem dksX10_isSmall_0 : cX10_isSmall.data.toList.drop 0 = dktX10_isSmall_0 := by decide +kernel
theorem dX10_isSmall_0 : decode cX10_isSmall 0 = .ok (.iload_n 0, 1) := dk_26 (dk_at dksX10_isSmall_0 0 rfl rfl)
theorem dX10_isSmall_1 : decode cX10_isSmall 1 = .ok (.bipush 97, 2) := dk_16 97 (dk_at dksX10_isSmall_0 1 rfl rfl)
theorem dX10_isSmall_3 : decode cX10_isSmall 3 = .ok (.if_icmp .lt 13, 3) := dk_161 0 13 (dk_at dksX10_isSmall_0 3 rfl rfl)
theorem dX10_isSmall_6 : decode cX10_isSmall 6 = .ok (.iload_n 0, 1) := dk_26 (dk_at dksX10_isSmall_0 6 rfl rfl)
theorem dX10_isSmall_7 : decode cX10_isSmall 7 = .ok (.bipush 122, 2) := dk_16 122 (dk_at dksX10_isSmall_0 7 rfl rfl)
theorem dX10_isSmall_9 : decode cX10_isSmall 9 = .ok (.if_icmp .gt 7, 3) := dk_163 0 7 (dk_at dksX10_isSmall_0 9 rfl rfl)
theorem dX10_isSmall_12 : decode cX10_isSmall 12 = .ok (.iconst 1, 1) := dk_4 (dk_at dksX10_isSmall_0 12 rfl rfl)
theorem dX10_isSmall_13 : decode cX10_isSmall 13 = .ok (.goto 4, 3) := dk_167 0 4 (dk_at dksX10_isSmall_0 13 rfl rfl)
theorem dX10_isSmall_16 : decode cX10_isSmall 16 = .ok (.iconst 0, 1) := dk_3 (dk_at dksX10_isSmall_0 16 rfl rfl)
theorem dX10_isSmall_17 : decode cX10_isSmall 17 = .ok (.ireturn, 1) := dk_172 (dk_at dksX10_isSmall_0 17 rfl rfl)
abbrev cX10_skipsWord : ByteArray := prog_11_method_9_code
def yX10_skipsWord : MethodName := ⟨RX10, "skipsWord", "()V"⟩
def dkwX10_skipsWord_1 : List UInt8 := [167, 255, 232, 177]
abbrev dktX10_skipsWord_1 : List UInt8 := dkwX10_skipsWord_1 ++ []
def dkwX10_skipsWord_0 : List UInt8 := [42, 42, 180, 0, 19, 182, 0, 22, 184, 0, 33, 153, 0, 16, 42, 89, 180, 0, 19, 4, 96, 181, 0, 19]
abbrev dktX10_skipsWord_0 : List UInt8 := dkwX10_skipsWord_0 ++ dktX10_skipsWord_1
theorem dksX10_skipsWord_0 : cX10_skipsWord.data.toList.drop 0 = dktX10_skipsWord_0 := by decide +kernel
theorem dksX10_skipsWord_1 : cX10_skipsWord.data.toList.drop 24 = dktX10_skipsWord_1 := dk_seg dksX10_skipsWord_0 24 rfl rfl
theorem dX10_skipsWord_0 : decode cX10_skipsWord 0 = .ok (.aload_n 0, 1) := dk_42 (dk_at dksX10_skipsWord_0 0 rfl rfl)
theorem dX10_skipsWord_1 : decode cX10_skipsWord 1 = .ok (.aload_n 0, 1) := dk_42 (dk_at dksX10_skipsWord_0 1 rfl rfl)
theorem dX10_skipsWord_2 : decode cX10_skipsWord 2 = .ok (.getfield 19, 3) := dk_180 0 19 (dk_at dksX10_skipsWord_0 2 rfl rfl)
theorem dX10_skipsWord_5 : decode cX10_skipsWord 5 = .ok (.invokevirtual 22, 3) := dk_182 0 22 (dk_at dksX10_skipsWord_0 5 rfl rfl)
theorem dX10_skipsWord_8 : decode cX10_skipsWord 8 = .ok (.invokestatic 33, 3) := dk_184 0 33 (dk_at dksX10_skipsWord_0 8 rfl rfl)
theorem dX10_skipsWord_11 : decode cX10_skipsWord 11 = .ok (.ifCond .eq 16, 3) := dk_153 0 16 (dk_at dksX10_skipsWord_0 11 rfl rfl)
theorem dX10_skipsWord_14 : decode cX10_skipsWord 14 = .ok (.aload_n 0, 1) := dk_42 (dk_at dksX10_skipsWord_0 14 rfl rfl)
theorem dX10_skipsWord_15 : decode cX10_skipsWord 15 = .ok (.dup, 1) := dk_89 (dk_at dksX10_skipsWord_0 15 rfl rfl)
theorem dX10_skipsWord_16 : decode cX10_skipsWord 16 = .ok (.getfield 19, 3) := dk_180 0 19 (dk_at dksX10_skipsWord_0 16 rfl rfl)
theorem dX10_skipsWord_19 : decode cX10_skipsWord 19 = .ok (.iconst 1, 1) := dk_4 (dk_at dksX10_skipsWord_0 19 rfl rfl)
theorem dX10_skipsWord_20 : decode cX10_skipsWord 20 = .ok (.iadd, 1) := dk_96 (dk_at dksX10_skipsWord_0 20 rfl rfl)
theorem dX10_skipsWord_21 : decode cX10_skipsWord 21 = .ok (.putfield 19, 3) := dk_181 0 19 (dk_at dksX10_skipsWord_0 21 rfl rfl)
theorem dX10_skipsWord_24 : decode cX10_skipsWord 24 = .ok (.goto (-24), 3) := dk_167 255 232 (dk_at dksX10_skipsWord_1 0 rfl rfl)
theorem dX10_skipsWord_27 : decode cX10_skipsWord 27 = .ok (.return_, 1) := dk_177 (dk_at dksX10_skipsWord_1 3 rfl rfl)
abbrev cX10_number : ByteArray := prog_11_method_10_code
def yX10_number : MethodName := ⟨RX10, "number", "(II)I"⟩
def dkwX10_number_4 : List UInt8 := [21, 4, 28, 164, 0, 13, 187, 0, 53, 89, 5, 29, 183, 0, 55, 191, 21, 4, 172]
abbrev dktX10_number_4 : List UInt8 := dkwX10_number_4 ++ []
def dkwX10_number_3 : List UInt8 := [184, 0, 59, 54, 4, 42, 89, 180, 0, 19, 4, 96, 181, 0, 19, 167, 255, 208, 21, 4, 27, 161, 0, 9]
abbrev dktX10_number_3 : List UInt8 := dkwX10_number_3 ++ dktX10_number_4
def dkwX10_number_2 : List UInt8 := [153, 0, 40, 16, 10, 21, 4, 104, 42, 42, 180, 0, 19, 182, 0, 22, 96, 16, 48, 100, 18, 58]
abbrev dktX10_number_2 : List UInt8 := dkwX10_number_2 ++ dktX10_number_3
def dkwX10_number_1 : List UInt8 := [187, 0, 53, 89, 4, 42, 180, 0, 19, 183, 0, 55, 191, 42, 42, 180, 0, 19, 182, 0, 22, 184, 0, 50]
abbrev dktX10_number_1 : List UInt8 := dkwX10_number_1 ++ dktX10_number_2
def dkwX10_number_0 : List UInt8 := [42, 182, 0, 30, 62, 3, 54, 4, 42, 42, 180, 0, 19, 182, 0, 22, 184, 0, 50, 154, 0, 16]
abbrev dktX10_number_0 : List UInt8 := dkwX10_number_0 ++ dktX10_number_1
theorem dksX10_number_0 : cX10_number.data.toList.drop 0 = dktX10_number_0 := by decide +kernel
theorem dksX10_number_1 : cX10_number.data.toList.drop 22 = dktX10_number_1 := dk_seg dksX10_number_0 22 rfl rfl
theorem dksX10_number_2 : cX10_number.data.toList.drop 46 = dktX10_number_2 := dk_seg dksX10_number_1 24 rfl rfl
theorem dksX10_number_3 : cX10_number.data.toList.drop 68 = dktX10_number_3 := dk_seg dksX10_number_2 22 rfl rfl
theorem dksX10_number_4 : cX10_number.data.toList.drop 92 = dktX10_number_4 := dk_seg dksX10_number_3 24 rfl rfl
theorem dX10_number_0 : decode cX10_number 0 = .ok (.aload_n 0, 1) := dk_42 (dk_at dksX10_number_0 0 rfl rfl)
theorem dX10_number_1 : decode cX10_number 1 = .ok (.invokevirtual 30, 3) := dk_182 0 30 (dk_at dksX10_number_0 1 rfl rfl)
theorem dX10_number_4 : decode cX10_number 4 = .ok (.istore_n 3, 1) := dk_62 (dk_at dksX10_number_0 4 rfl rfl)
theorem dX10_number_5 : decode cX10_number 5 = .ok (.iconst 0, 1) := dk_3 (dk_at dksX10_number_0 5 rfl rfl)
theorem dX10_number_6 : decode cX10_number 6 = .ok (.istore 4, 2) := dk_54 4 (dk_at dksX10_number_0 6 rfl rfl)
theorem dX10_number_8 : decode cX10_number 8 = .ok (.aload_n 0, 1) := dk_42 (dk_at dksX10_number_0 8 rfl rfl)
theorem dX10_number_9 : decode cX10_number 9 = .ok (.aload_n 0, 1) := dk_42 (dk_at dksX10_number_0 9 rfl rfl)
theorem dX10_number_10 : decode cX10_number 10 = .ok (.getfield 19, 3) := dk_180 0 19 (dk_at dksX10_number_0 10 rfl rfl)
theorem dX10_number_13 : decode cX10_number 13 = .ok (.invokevirtual 22, 3) := dk_182 0 22 (dk_at dksX10_number_0 13 rfl rfl)
theorem dX10_number_16 : decode cX10_number 16 = .ok (.invokestatic 50, 3) := dk_184 0 50 (dk_at dksX10_number_0 16 rfl rfl)
theorem dX10_number_19 : decode cX10_number 19 = .ok (.ifCond .ne 16, 3) := dk_154 0 16 (dk_at dksX10_number_0 19 rfl rfl)
theorem dX10_number_22 : decode cX10_number 22 = .ok (.new 53, 3) := dk_187 0 53 (dk_at dksX10_number_1 0 rfl rfl)
theorem dX10_number_25 : decode cX10_number 25 = .ok (.dup, 1) := dk_89 (dk_at dksX10_number_1 3 rfl rfl)
theorem dX10_number_26 : decode cX10_number 26 = .ok (.iconst 1, 1) := dk_4 (dk_at dksX10_number_1 4 rfl rfl)
theorem dX10_number_27 : decode cX10_number 27 = .ok (.aload_n 0, 1) := dk_42 (dk_at dksX10_number_1 5 rfl rfl)
theorem dX10_number_28 : decode cX10_number 28 = .ok (.getfield 19, 3) := dk_180 0 19 (dk_at dksX10_number_1 6 rfl rfl)
theorem dX10_number_31 : decode cX10_number 31 = .ok (.invokespecial 55, 3) := dk_183 0 55 (dk_at dksX10_number_1 9 rfl rfl)
theorem dX10_number_34 : decode cX10_number 34 = .ok (.athrow, 1) := dk_191 (dk_at dksX10_number_1 12 rfl rfl)
theorem dX10_number_35 : decode cX10_number 35 = .ok (.aload_n 0, 1) := dk_42 (dk_at dksX10_number_1 13 rfl rfl)
theorem dX10_number_36 : decode cX10_number 36 = .ok (.aload_n 0, 1) := dk_42 (dk_at dksX10_number_1 14 rfl rfl)
theorem dX10_number_37 : decode cX10_number 37 = .ok (.getfield 19, 3) := dk_180 0 19 (dk_at dksX10_number_1 15 rfl rfl)
theorem dX10_number_40 : decode cX10_number 40 = .ok (.invokevirtual 22, 3) := dk_182 0 22 (dk_at dksX10_number_1 18 rfl rfl)
theorem dX10_number_43 : decode cX10_number 43 = .ok (.invokestatic 50, 3) := dk_184 0 50 (dk_at dksX10_number_1 21 rfl rfl)
theorem dX10_number_46 : decode cX10_number 46 = .ok (.ifCond .eq 40, 3) := dk_153 0 40 (dk_at dksX10_number_2 0 rfl rfl)
theorem dX10_number_49 : decode cX10_number 49 = .ok (.bipush 10, 2) := dk_16 10 (dk_at dksX10_number_2 3 rfl rfl)
theorem dX10_number_51 : decode cX10_number 51 = .ok (.iload 4, 2) := dk_21 4 (dk_at dksX10_number_2 5 rfl rfl)
theorem dX10_number_53 : decode cX10_number 53 = .ok (.imul, 1) := dk_104 (dk_at dksX10_number_2 7 rfl rfl)
theorem dX10_number_54 : decode cX10_number 54 = .ok (.aload_n 0, 1) := dk_42 (dk_at dksX10_number_2 8 rfl rfl)
theorem dX10_number_55 : decode cX10_number 55 = .ok (.aload_n 0, 1) := dk_42 (dk_at dksX10_number_2 9 rfl rfl)
theorem dX10_number_56 : decode cX10_number 56 = .ok (.getfield 19, 3) := dk_180 0 19 (dk_at dksX10_number_2 10 rfl rfl)
theorem dX10_number_59 : decode cX10_number 59 = .ok (.invokevirtual 22, 3) := dk_182 0 22 (dk_at dksX10_number_2 13 rfl rfl)
theorem dX10_number_62 : decode cX10_number 62 = .ok (.iadd, 1) := dk_96 (dk_at dksX10_number_2 16 rfl rfl)
theorem dX10_number_63 : decode cX10_number 63 = .ok (.bipush 48, 2) := dk_16 48 (dk_at dksX10_number_2 17 rfl rfl)
theorem dX10_number_65 : decode cX10_number 65 = .ok (.isub, 1) := dk_100 (dk_at dksX10_number_2 19 rfl rfl)
theorem dX10_number_66 : decode cX10_number 66 = .ok (.ldc 58, 2) := dk_18 58 (dk_at dksX10_number_2 20 rfl rfl)
theorem dX10_number_68 : decode cX10_number 68 = .ok (.invokestatic 59, 3) := dk_184 0 59 (dk_at dksX10_number_3 0 rfl rfl)
theorem dX10_number_71 : decode cX10_number 71 = .ok (.istore 4, 2) := dk_54 4 (dk_at dksX10_number_3 3 rfl rfl)
theorem dX10_number_73 : decode cX10_number 73 = .ok (.aload_n 0, 1) := dk_42 (dk_at dksX10_number_3 5 rfl rfl)
theorem dX10_number_74 : decode cX10_number 74 = .ok (.dup, 1) := dk_89 (dk_at dksX10_number_3 6 rfl rfl)
theorem dX10_number_75 : decode cX10_number 75 = .ok (.getfield 19, 3) := dk_180 0 19 (dk_at dksX10_number_3 7 rfl rfl)
theorem dX10_number_78 : decode cX10_number 78 = .ok (.iconst 1, 1) := dk_4 (dk_at dksX10_number_3 10 rfl rfl)
theorem dX10_number_79 : decode cX10_number 79 = .ok (.iadd, 1) := dk_96 (dk_at dksX10_number_3 11 rfl rfl)
theorem dX10_number_80 : decode cX10_number 80 = .ok (.putfield 19, 3) := dk_181 0 19 (dk_at dksX10_number_3 12 rfl rfl)
theorem dX10_number_83 : decode cX10_number 83 = .ok (.goto (-48), 3) := dk_167 255 208 (dk_at dksX10_number_3 15 rfl rfl)
theorem dX10_number_86 : decode cX10_number 86 = .ok (.iload 4, 2) := dk_21 4 (dk_at dksX10_number_3 18 rfl rfl)
theorem dX10_number_88 : decode cX10_number 88 = .ok (.iload_n 1, 1) := dk_27 (dk_at dksX10_number_3 20 rfl rfl)
theorem dX10_number_89 : decode cX10_number 89 = .ok (.if_icmp .lt 9, 3) := dk_161 0 9 (dk_at dksX10_number_3 21 rfl rfl)
theorem dX10_number_92 : decode cX10_number 92 = .ok (.iload 4, 2) := dk_21 4 (dk_at dksX10_number_4 0 rfl rfl)
theorem dX10_number_94 : decode cX10_number 94 = .ok (.iload_n 2, 1) := dk_28 (dk_at dksX10_number_4 2 rfl rfl)
theorem dX10_number_95 : decode cX10_number 95 = .ok (.if_icmp .le 13, 3) := dk_164 0 13 (dk_at dksX10_number_4 3 rfl rfl)
theorem dX10_number_98 : decode cX10_number 98 = .ok (.new 53, 3) := dk_187 0 53 (dk_at dksX10_number_4 6 rfl rfl)
theorem dX10_number_101 : decode cX10_number 101 = .ok (.dup, 1) := dk_89 (dk_at dksX10_number_4 9 rfl rfl)
theorem dX10_number_102 : decode cX10_number 102 = .ok (.iconst 2, 1) := dk_5 (dk_at dksX10_number_4 10 rfl rfl)
theorem dX10_number_103 : decode cX10_number 103 = .ok (.iload_n 3, 1) := dk_29 (dk_at dksX10_number_4 11 rfl rfl)
theorem dX10_number_104 : decode cX10_number 104 = .ok (.invokespecial 55, 3) := dk_183 0 55 (dk_at dksX10_number_4 12 rfl rfl)
theorem dX10_number_107 : decode cX10_number 107 = .ok (.athrow, 1) := dk_191 (dk_at dksX10_number_4 15 rfl rfl)
theorem dX10_number_108 : decode cX10_number 108 = .ok (.iload 4, 2) := dk_21 4 (dk_at dksX10_number_4 16 rfl rfl)
theorem dX10_number_110 : decode cX10_number 110 = .ok (.ireturn, 1) := dk_172 (dk_at dksX10_number_4 18 rfl rfl)
abbrev cX10_isDigit : ByteArray := prog_11_method_6_code
def yX10_isDigit : MethodName := ⟨RX10, "isDigit", "(I)Z"⟩
def dkwX10_isDigit_0 : List UInt8 := [26, 16, 48, 161, 0, 13, 26, 16, 57, 163, 0, 7, 4, 167, 0, 4, 3, 172]
abbrev dktX10_isDigit_0 : List UInt8 := dkwX10_isDigit_0 ++ []
theorem dksX10_isDigit_0 : cX10_isDigit.data.toList.drop 0 = dktX10_isDigit_0 := by decide +kernel
theorem dX10_isDigit_0 : decode cX10_isDigit 0 = .ok (.iload_n 0, 1) := dk_26 (dk_at dksX10_isDigit_0 0 rfl rfl)
theorem dX10_isDigit_1 : decode cX10_isDigit 1 = .ok (.bipush 48, 2) := dk_16 48 (dk_at dksX10_isDigit_0 1 rfl rfl)
theorem dX10_isDigit_3 : decode cX10_isDigit 3 = .ok (.if_icmp .lt 13, 3) := dk_161 0 13 (dk_at dksX10_isDigit_0 3 rfl rfl)
theorem dX10_isDigit_6 : decode cX10_isDigit 6 = .ok (.iload_n 0, 1) := dk_26 (dk_at dksX10_isDigit_0 6 rfl rfl)
theorem dX10_isDigit_7 : decode cX10_isDigit 7 = .ok (.bipush 57, 2) := dk_16 57 (dk_at dksX10_isDigit_0 7 rfl rfl)
theorem dX10_isDigit_9 : decode cX10_isDigit 9 = .ok (.if_icmp .gt 7, 3) := dk_163 0 7 (dk_at dksX10_isDigit_0 9 rfl rfl)
theorem dX10_isDigit_12 : decode cX10_isDigit 12 = .ok (.iconst 1, 1) := dk_4 (dk_at dksX10_isDigit_0 12 rfl rfl)
theorem dX10_isDigit_13 : decode cX10_isDigit 13 = .ok (.goto 4, 3) := dk_167 0 4 (dk_at dksX10_isDigit_0 13 rfl rfl)
theorem dX10_isDigit_16 : decode cX10_isDigit 16 = .ok (.iconst 0, 1) := dk_3 (dk_at dksX10_isDigit_0 16 rfl rfl)
theorem dX10_isDigit_17 : decode cX10_isDigit 17 = .ok (.ireturn, 1) := dk_172 (dk_at dksX10_isDigit_0 17 rfl rfl)
abbrev cX10_sign : ByteArray := prog_11_method_11_code
def yX10_sign : MethodName := ⟨RX10, "sign", "(C)V"⟩
def dkwX10_sign_1 : List UInt8 := [180, 0, 19, 4, 96, 181, 0, 19, 177]
abbrev dktX10_sign_1 : List UInt8 := dkwX10_sign_1 ++ []
def dkwX10_sign_0 : List UInt8 := [42, 182, 0, 26, 27, 159, 0, 16, 187, 0, 53, 89, 4, 42, 180, 0, 19, 183, 0, 55, 191, 42, 89]
abbrev dktX10_sign_0 : List UInt8 := dkwX10_sign_0 ++ dktX10_sign_1
theorem dksX10_sign_0 : cX10_sign.data.toList.drop 0 = dktX10_sign_0 := by decide +kernel
theorem dksX10_sign_1 : cX10_sign.data.toList.drop 23 = dktX10_sign_1 := dk_seg dksX10_sign_0 23 rfl rfl
theorem dX10_sign_0 : decode cX10_sign 0 = .ok (.aload_n 0, 1) := dk_42 (dk_at dksX10_sign_0 0 rfl rfl)
theorem dX10_sign_1 : decode cX10_sign 1 = .ok (.invokevirtual 26, 3) := dk_182 0 26 (dk_at dksX10_sign_0 1 rfl rfl)
theorem dX10_sign_4 : decode cX10_sign 4 = .ok (.iload_n 1, 1) := dk_27 (dk_at dksX10_sign_0 4 rfl rfl)
theorem dX10_sign_5 : decode cX10_sign 5 = .ok (.if_icmp .eq 16, 3) := dk_159 0 16 (dk_at dksX10_sign_0 5 rfl rfl)
theorem dX10_sign_8 : decode cX10_sign 8 = .ok (.new 53, 3) := dk_187 0 53 (dk_at dksX10_sign_0 8 rfl rfl)
theorem dX10_sign_11 : decode cX10_sign 11 = .ok (.dup, 1) := dk_89 (dk_at dksX10_sign_0 11 rfl rfl)
theorem dX10_sign_12 : decode cX10_sign 12 = .ok (.iconst 1, 1) := dk_4 (dk_at dksX10_sign_0 12 rfl rfl)
theorem dX10_sign_13 : decode cX10_sign 13 = .ok (.aload_n 0, 1) := dk_42 (dk_at dksX10_sign_0 13 rfl rfl)
theorem dX10_sign_14 : decode cX10_sign 14 = .ok (.getfield 19, 3) := dk_180 0 19 (dk_at dksX10_sign_0 14 rfl rfl)
theorem dX10_sign_17 : decode cX10_sign 17 = .ok (.invokespecial 55, 3) := dk_183 0 55 (dk_at dksX10_sign_0 17 rfl rfl)
theorem dX10_sign_20 : decode cX10_sign 20 = .ok (.athrow, 1) := dk_191 (dk_at dksX10_sign_0 20 rfl rfl)
theorem dX10_sign_21 : decode cX10_sign 21 = .ok (.aload_n 0, 1) := dk_42 (dk_at dksX10_sign_0 21 rfl rfl)
theorem dX10_sign_22 : decode cX10_sign 22 = .ok (.dup, 1) := dk_89 (dk_at dksX10_sign_0 22 rfl rfl)
theorem dX10_sign_23 : decode cX10_sign 23 = .ok (.getfield 19, 3) := dk_180 0 19 (dk_at dksX10_sign_1 0 rfl rfl)
theorem dX10_sign_26 : decode cX10_sign 26 = .ok (.iconst 1, 1) := dk_4 (dk_at dksX10_sign_1 3 rfl rfl)
theorem dX10_sign_27 : decode cX10_sign 27 = .ok (.iadd, 1) := dk_96 (dk_at dksX10_sign_1 4 rfl rfl)
theorem dX10_sign_28 : decode cX10_sign 28 = .ok (.putfield 19, 3) := dk_181 0 19 (dk_at dksX10_sign_1 5 rfl rfl)
theorem dX10_sign_31 : decode cX10_sign 31 = .ok (.return_, 1) := dk_177 (dk_at dksX10_sign_1 8 rfl rfl)
abbrev cX10_opens : ByteArray := prog_11_method_13_code
def yX10_opens : MethodName := ⟨RX10, "opens", "()V"⟩
def dkwX10_opens_1 : List UInt8 := [180, 0, 65, 4, 96, 181, 0, 65, 177]
abbrev dktX10_opens_1 : List UInt8 := dkwX10_opens_1 ++ []
def dkwX10_opens_0 : List UInt8 := [42, 180, 0, 65, 16, 6, 160, 0, 16, 187, 0, 53, 89, 6, 42, 182, 0, 30, 183, 0, 55, 191, 42, 89]
abbrev dktX10_opens_0 : List UInt8 := dkwX10_opens_0 ++ dktX10_opens_1
theorem dksX10_opens_0 : cX10_opens.data.toList.drop 0 = dktX10_opens_0 := by decide +kernel
theorem dksX10_opens_1 : cX10_opens.data.toList.drop 24 = dktX10_opens_1 := dk_seg dksX10_opens_0 24 rfl rfl
theorem dX10_opens_0 : decode cX10_opens 0 = .ok (.aload_n 0, 1) := dk_42 (dk_at dksX10_opens_0 0 rfl rfl)
theorem dX10_opens_1 : decode cX10_opens 1 = .ok (.getfield 65, 3) := dk_180 0 65 (dk_at dksX10_opens_0 1 rfl rfl)
theorem dX10_opens_4 : decode cX10_opens 4 = .ok (.bipush 6, 2) := dk_16 6 (dk_at dksX10_opens_0 4 rfl rfl)
theorem dX10_opens_6 : decode cX10_opens 6 = .ok (.if_icmp .ne 16, 3) := dk_160 0 16 (dk_at dksX10_opens_0 6 rfl rfl)
theorem dX10_opens_9 : decode cX10_opens 9 = .ok (.new 53, 3) := dk_187 0 53 (dk_at dksX10_opens_0 9 rfl rfl)
theorem dX10_opens_12 : decode cX10_opens 12 = .ok (.dup, 1) := dk_89 (dk_at dksX10_opens_0 12 rfl rfl)
theorem dX10_opens_13 : decode cX10_opens 13 = .ok (.iconst 3, 1) := dk_6 (dk_at dksX10_opens_0 13 rfl rfl)
theorem dX10_opens_14 : decode cX10_opens 14 = .ok (.aload_n 0, 1) := dk_42 (dk_at dksX10_opens_0 14 rfl rfl)
theorem dX10_opens_15 : decode cX10_opens 15 = .ok (.invokevirtual 30, 3) := dk_182 0 30 (dk_at dksX10_opens_0 15 rfl rfl)
theorem dX10_opens_18 : decode cX10_opens 18 = .ok (.invokespecial 55, 3) := dk_183 0 55 (dk_at dksX10_opens_0 18 rfl rfl)
theorem dX10_opens_21 : decode cX10_opens 21 = .ok (.athrow, 1) := dk_191 (dk_at dksX10_opens_0 21 rfl rfl)
theorem dX10_opens_22 : decode cX10_opens 22 = .ok (.aload_n 0, 1) := dk_42 (dk_at dksX10_opens_0 22 rfl rfl)
theorem dX10_opens_23 : decode cX10_opens 23 = .ok (.dup, 1) := dk_89 (dk_at dksX10_opens_0 23 rfl rfl)
theorem dX10_opens_24 : decode cX10_opens 24 = .ok (.getfield 65, 3) := dk_180 0 65 (dk_at dksX10_opens_1 0 rfl rfl)
theorem dX10_opens_27 : decode cX10_opens 27 = .ok (.iconst 1, 1) := dk_4 (dk_at dksX10_opens_1 3 rfl rfl)
theorem dX10_opens_28 : decode cX10_opens 28 = .ok (.iadd, 1) := dk_96 (dk_at dksX10_opens_1 4 rfl rfl)
theorem dX10_opens_29 : decode cX10_opens 29 = .ok (.putfield 65, 3) := dk_181 0 65 (dk_at dksX10_opens_1 5 rfl rfl)
theorem dX10_opens_32 : decode cX10_opens 32 = .ok (.return_, 1) := dk_177 (dk_at dksX10_opens_1 8 rfl rfl)
abbrev cX10_closes : ByteArray := prog_11_method_14_code
def yX10_closes : MethodName := ⟨RX10, "closes", "()V"⟩
def dkwX10_closes_0 : List UInt8 := [42, 89, 180, 0, 65, 4, 100, 181, 0, 65, 177]
abbrev dktX10_closes_0 : List UInt8 := dkwX10_closes_0 ++ []
theorem dksX10_closes_0 : cX10_closes.data.toList.drop 0 = dktX10_closes_0 := by decide +kernel
theorem dX10_closes_0 : decode cX10_closes 0 = .ok (.aload_n 0, 1) := dk_42 (dk_at dksX10_closes_0 0 rfl rfl)
theorem dX10_closes_1 : decode cX10_closes 1 = .ok (.dup, 1) := dk_89 (dk_at dksX10_closes_0 1 rfl rfl)
theorem dX10_closes_2 : decode cX10_closes 2 = .ok (.getfield 65, 3) := dk_180 0 65 (dk_at dksX10_closes_0 2 rfl rfl)
theorem dX10_closes_5 : decode cX10_closes 5 = .ok (.iconst 1, 1) := dk_4 (dk_at dksX10_closes_0 5 rfl rfl)
theorem dX10_closes_6 : decode cX10_closes 6 = .ok (.isub, 1) := dk_100 (dk_at dksX10_closes_0 6 rfl rfl)
theorem dX10_closes_7 : decode cX10_closes 7 = .ok (.putfield 65, 3) := dk_181 0 65 (dk_at dksX10_closes_0 7 rfl rfl)
theorem dX10_closes_10 : decode cX10_closes 10 = .ok (.return_, 1) := dk_177 (dk_at dksX10_closes_0 10 rfl rfl)
abbrev cX10_takesSign : ByteArray := prog_11_method_12_code
def yX10_takesSign : MethodName := ⟨RX10, "takesSign", "(C)Z"⟩
def dkwX10_takesSign_1 : List UInt8 := [96, 181, 0, 19, 28, 172]
abbrev dktX10_takesSign_1 : List UInt8 := dkwX10_takesSign_1 ++ []
def dkwX10_takesSign_0 : List UInt8 := [42, 182, 0, 26, 27, 160, 0, 7, 4, 167, 0, 4, 3, 61, 28, 153, 0, 13, 42, 89, 180, 0, 19, 4]
abbrev dktX10_takesSign_0 : List UInt8 := dkwX10_takesSign_0 ++ dktX10_takesSign_1
theorem dksX10_takesSign_0 : cX10_takesSign.data.toList.drop 0 = dktX10_takesSign_0 := by decide +kernel
theorem dksX10_takesSign_1 : cX10_takesSign.data.toList.drop 24 = dktX10_takesSign_1 := dk_seg dksX10_takesSign_0 24 rfl rfl
theorem dX10_takesSign_0 : decode cX10_takesSign 0 = .ok (.aload_n 0, 1) := dk_42 (dk_at dksX10_takesSign_0 0 rfl rfl)
theorem dX10_takesSign_1 : decode cX10_takesSign 1 = .ok (.invokevirtual 26, 3) := dk_182 0 26 (dk_at dksX10_takesSign_0 1 rfl rfl)
theorem dX10_takesSign_4 : decode cX10_takesSign 4 = .ok (.iload_n 1, 1) := dk_27 (dk_at dksX10_takesSign_0 4 rfl rfl)
theorem dX10_takesSign_5 : decode cX10_takesSign 5 = .ok (.if_icmp .ne 7, 3) := dk_160 0 7 (dk_at dksX10_takesSign_0 5 rfl rfl)
theorem dX10_takesSign_8 : decode cX10_takesSign 8 = .ok (.iconst 1, 1) := dk_4 (dk_at dksX10_takesSign_0 8 rfl rfl)
theorem dX10_takesSign_9 : decode cX10_takesSign 9 = .ok (.goto 4, 3) := dk_167 0 4 (dk_at dksX10_takesSign_0 9 rfl rfl)
theorem dX10_takesSign_12 : decode cX10_takesSign 12 = .ok (.iconst 0, 1) := dk_3 (dk_at dksX10_takesSign_0 12 rfl rfl)
theorem dX10_takesSign_13 : decode cX10_takesSign 13 = .ok (.istore_n 2, 1) := dk_61 (dk_at dksX10_takesSign_0 13 rfl rfl)
theorem dX10_takesSign_14 : decode cX10_takesSign 14 = .ok (.iload_n 2, 1) := dk_28 (dk_at dksX10_takesSign_0 14 rfl rfl)
theorem dX10_takesSign_15 : decode cX10_takesSign 15 = .ok (.ifCond .eq 13, 3) := dk_153 0 13 (dk_at dksX10_takesSign_0 15 rfl rfl)
theorem dX10_takesSign_18 : decode cX10_takesSign 18 = .ok (.aload_n 0, 1) := dk_42 (dk_at dksX10_takesSign_0 18 rfl rfl)
theorem dX10_takesSign_19 : decode cX10_takesSign 19 = .ok (.dup, 1) := dk_89 (dk_at dksX10_takesSign_0 19 rfl rfl)
theorem dX10_takesSign_20 : decode cX10_takesSign 20 = .ok (.getfield 19, 3) := dk_180 0 19 (dk_at dksX10_takesSign_0 20 rfl rfl)
theorem dX10_takesSign_23 : decode cX10_takesSign 23 = .ok (.iconst 1, 1) := dk_4 (dk_at dksX10_takesSign_0 23 rfl rfl)
theorem dX10_takesSign_24 : decode cX10_takesSign 24 = .ok (.iadd, 1) := dk_96 (dk_at dksX10_takesSign_1 0 rfl rfl)
theorem dX10_takesSign_25 : decode cX10_takesSign 25 = .ok (.putfield 19, 3) := dk_181 0 19 (dk_at dksX10_takesSign_1 1 rfl rfl)
theorem dX10_takesSign_28 : decode cX10_takesSign 28 = .ok (.iload_n 2, 1) := dk_28 (dk_at dksX10_takesSign_1 4 rfl rfl)
theorem dX10_takesSign_29 : decode cX10_takesSign 29 = .ok (.ireturn, 1) := dk_172 (dk_at dksX10_takesSign_1 5 rfl rfl)
abbrev cX10_ends : ByteArray := prog_11_method_15_code
def yX10_ends : MethodName := ⟨RX10, "ends", "()V"⟩
def dkwX10_ends_0 : List UInt8 := [42, 182, 0, 26, 2, 159, 0, 16, 187, 0, 53, 89, 4, 42, 180, 0, 19, 183, 0, 55, 191, 177]
abbrev dktX10_ends_0 : List UInt8 := dkwX10_ends_0 ++ []
theorem dksX10_ends_0 : cX10_ends.data.toList.drop 0 = dktX10_ends_0 := by decide +kernel
theorem dX10_ends_0 : decode cX10_ends 0 = .ok (.aload_n 0, 1) := dk_42 (dk_at dksX10_ends_0 0 rfl rfl)
theorem dX10_ends_1 : decode cX10_ends 1 = .ok (.invokevirtual 26, 3) := dk_182 0 26 (dk_at dksX10_ends_0 1 rfl rfl)
theorem dX10_ends_4 : decode cX10_ends 4 = .ok (.iconst (-1), 1) := dk_2 (dk_at dksX10_ends_0 4 rfl rfl)
theorem dX10_ends_5 : decode cX10_ends 5 = .ok (.if_icmp .eq 16, 3) := dk_159 0 16 (dk_at dksX10_ends_0 5 rfl rfl)
theorem dX10_ends_8 : decode cX10_ends 8 = .ok (.new 53, 3) := dk_187 0 53 (dk_at dksX10_ends_0 8 rfl rfl)
theorem dX10_ends_11 : decode cX10_ends 11 = .ok (.dup, 1) := dk_89 (dk_at dksX10_ends_0 11 rfl rfl)
theorem dX10_ends_12 : decode cX10_ends 12 = .ok (.iconst 1, 1) := dk_4 (dk_at dksX10_ends_0 12 rfl rfl)
theorem dX10_ends_13 : decode cX10_ends 13 = .ok (.aload_n 0, 1) := dk_42 (dk_at dksX10_ends_0 13 rfl rfl)
theorem dX10_ends_14 : decode cX10_ends 14 = .ok (.getfield 19, 3) := dk_180 0 19 (dk_at dksX10_ends_0 14 rfl rfl)
theorem dX10_ends_17 : decode cX10_ends 17 = .ok (.invokespecial 55, 3) := dk_183 0 55 (dk_at dksX10_ends_0 17 rfl rfl)
theorem dX10_ends_20 : decode cX10_ends 20 = .ok (.athrow, 1) := dk_191 (dk_at dksX10_ends_0 20 rfl rfl)
theorem dX10_ends_21 : decode cX10_ends 21 = .ok (.return_, 1) := dk_177 (dk_at dksX10_ends_0 21 rfl rfl)
theorem q100 : (Jvm.Cond.initialized "GrowingDoor$Reader") ∈ lw_all := lw_g (lw_at lw_m1 15 rfl) rfl
theorem q588 : (Jvm.Cond.instantiable "GrowingDoor$Reader" (4 : Nat)) ∈ lw_all := lw_g (lw_at lw_m3 23 rfl) rfl
theorem q590 : (Jvm.Cond.instanceMethod ({ cls := "GrowingDoor$Reader", name := "<init>", desc := "([BI)V" } : Jvm.MethodName)) ∈ lw_all := lw_g (lw_at lw_m3 25 rfl) rfl
theorem q591 : (Jvm.Cond.code ({ cls := "GrowingDoor$Reader", name := "<init>", desc := "([BI)V" } : Jvm.MethodName) prog_11_method_1_code (3 : Nat) (Option.none : Option Jvm.ClassFile.FieldType)) ∈ lw_all := lw_g (lw_at lw_m3 26 rfl) rfl
theorem q592 : (Jvm.Cond.methodLink "GrowingDoor$Reader" (3 : Nat) ({ cls := "java/lang/Object", name := "<init>", desc := "()V" } : Jvm.MethodName)) ∈ lw_all := lw_g (lw_at lw_m3 27 rfl) rfl
theorem q593 : (Jvm.Cond.fieldLink "GrowingDoor$Reader" (9 : Nat) "GrowingDoor$Reader" "bytes" "[B") ∈ lw_all := lw_g (lw_at lw_m3 28 rfl) rfl
theorem q594 : (Jvm.Cond.fieldLink "GrowingDoor$Reader" (15 : Nat) "GrowingDoor$Reader" "end" "I") ∈ lw_all := lw_g (lw_at lw_m3 29 rfl) rfl
theorem q595 : (Jvm.Cond.fieldLink "GrowingDoor$Reader" (19 : Nat) "GrowingDoor$Reader" "at" "I") ∈ lw_all := lw_g (lw_at lw_m3 30 rfl) rfl
theorem q596 : (Jvm.Cond.fieldLink "GrowingDoor$Reader" (65 : Nat) "GrowingDoor$Reader" "open" "I") ∈ lw_all := lw_g (lw_at lw_m3 31 rfl) rfl
theorem q597 : (Jvm.Cond.laysFinal "GrowingDoor$Reader" "GrowingDoor$Reader" "bytes" "[B") ∈ lw_all := lw_g (lw_at lw_m3 32 rfl) rfl
theorem q598 : (Jvm.Cond.soleField "GrowingDoor$Reader" "bytes") ∈ lw_all := lw_g (lw_at lw_m3 33 rfl) rfl
theorem q599 : (Jvm.Cond.laysFinal "GrowingDoor$Reader" "GrowingDoor$Reader" "end" "I") ∈ lw_all := lw_g (lw_at lw_m3 34 rfl) rfl
theorem q600 : (Jvm.Cond.soleField "GrowingDoor$Reader" "end") ∈ lw_all := lw_g (lw_at lw_m3 35 rfl) rfl
theorem q601 : (Jvm.Cond.lays "GrowingDoor$Reader" "GrowingDoor$Reader" "at" "I") ∈ lw_all := lw_g (lw_at lw_m3 36 rfl) rfl
theorem q602 : (Jvm.Cond.soleField "GrowingDoor$Reader" "at") ∈ lw_all := lw_g (lw_at lw_m3 37 rfl) rfl
theorem q603 : (Jvm.Cond.lays "GrowingDoor$Reader" "GrowingDoor$Reader" "open" "I") ∈ lw_all := lw_g (lw_at lw_m3 38 rfl) rfl
theorem q604 : (Jvm.Cond.soleField "GrowingDoor$Reader" "open") ∈ lw_all := lw_g (lw_at lw_m3 39 rfl) rfl
theorem q605 : (Jvm.Cond.superclass "GrowingDoor$Reader" "java/lang/Object") ∈ lw_all := lw_g (lw_at lw_m3 40 rfl) rfl
theorem q636 : (Jvm.Cond.instanceMethod ({ cls := "GrowingDoor$Reader", name := "now", desc := "()I" } : Jvm.MethodName)) ∈ lw_all := lw_g (lw_at lw_m3 71 rfl) rfl
theorem q637 : (Jvm.Cond.selects "GrowingDoor$Reader" ({ cls := "GrowingDoor$Reader", name := "now", desc := "()I" } : Jvm.MethodName) ({ cls := "GrowingDoor$Reader", name := "now", desc := "()I" } : Jvm.MethodName)) ∈ lw_all := lw_g (lw_at lw_m3 72 rfl) rfl
theorem q638 : (Jvm.Cond.code ({ cls := "GrowingDoor$Reader", name := "now", desc := "()I" } : Jvm.MethodName) prog_11_method_3_code (1 : Nat) (Option.some Jvm.ClassFile.FieldType.int)) ∈ lw_all := lw_g (lw_at lw_m3 73 rfl) rfl
theorem q639 : (Jvm.Cond.methodLink "GrowingDoor$Reader" (22 : Nat) ({ cls := "GrowingDoor$Reader", name := "byteAt", desc := "(I)I" } : Jvm.MethodName)) ∈ lw_all := lw_g (lw_at lw_m3 74 rfl) rfl
theorem q640 : (Jvm.Cond.privateMethod ({ cls := "GrowingDoor$Reader", name := "byteAt", desc := "(I)I" } : Jvm.MethodName)) ∈ lw_tbl := lw_at lw_m3 75 rfl
theorem q641 : (Jvm.Cond.instanceMethod ({ cls := "GrowingDoor$Reader", name := "byteAt", desc := "(I)I" } : Jvm.MethodName)) ∈ lw_all := lw_g (lw_at lw_m3 76 rfl) rfl
theorem q642 : (Jvm.Cond.code ({ cls := "GrowingDoor$Reader", name := "byteAt", desc := "(I)I" } : Jvm.MethodName) prog_11_method_2_code (2 : Nat) (Option.some Jvm.ClassFile.FieldType.int)) ∈ lw_all := lw_g (lw_at lw_m3 77 rfl) rfl
theorem q648 : (Jvm.Cond.instanceMethod ({ cls := "GrowingDoor$Reader", name := "place", desc := "()I" } : Jvm.MethodName)) ∈ lw_all := lw_g (lw_at lw_m3 83 rfl) rfl
theorem q649 : (Jvm.Cond.selects "GrowingDoor$Reader" ({ cls := "GrowingDoor$Reader", name := "place", desc := "()I" } : Jvm.MethodName) ({ cls := "GrowingDoor$Reader", name := "place", desc := "()I" } : Jvm.MethodName)) ∈ lw_all := lw_g (lw_at lw_m3 84 rfl) rfl
theorem q650 : (Jvm.Cond.code ({ cls := "GrowingDoor$Reader", name := "place", desc := "()I" } : Jvm.MethodName) prog_11_method_4_code (1 : Nat) (Option.some Jvm.ClassFile.FieldType.int)) ∈ lw_all := lw_g (lw_at lw_m3 85 rfl) rfl
theorem q651 : (Jvm.Cond.methodLink "GrowingDoor$Reader" (26 : Nat) ({ cls := "GrowingDoor$Reader", name := "now", desc := "()I" } : Jvm.MethodName)) ∈ lw_all := lw_g (lw_at lw_m3 86 rfl) rfl
theorem q653 : (Jvm.Cond.instanceMethod ({ cls := "GrowingDoor$Reader", name := "which", desc := "([Ljava/lang/String;)I" } : Jvm.MethodName)) ∈ lw_all := lw_g (lw_at lw_m3 88 rfl) rfl
theorem q654 : (Jvm.Cond.selects "GrowingDoor$Reader" ({ cls := "GrowingDoor$Reader", name := "which", desc := "([Ljava/lang/String;)I" } : Jvm.MethodName) ({ cls := "GrowingDoor$Reader", name := "which", desc := "([Ljava/lang/String;)I" } : Jvm.MethodName)) ∈ lw_all := lw_g (lw_at lw_m3 89 rfl) rfl
theorem q655 : (Jvm.Cond.code ({ cls := "GrowingDoor$Reader", name := "which", desc := "([Ljava/lang/String;)I" } : Jvm.MethodName) prog_11_method_8_code (3 : Nat) (Option.some Jvm.ClassFile.FieldType.int)) ∈ lw_all := lw_g (lw_at lw_m3 90 rfl) rfl
theorem q656 : (Jvm.Cond.methodLink "GrowingDoor$Reader" (46 : Nat) ({ cls := "GrowingDoor$Reader", name := "isWord", desc := "(Ljava/lang/String;)Z" } : Jvm.MethodName)) ∈ lw_all := lw_g (lw_at lw_m3 91 rfl) rfl
theorem q657 : (Jvm.Cond.instanceMethod ({ cls := "GrowingDoor$Reader", name := "isWord", desc := "(Ljava/lang/String;)Z" } : Jvm.MethodName)) ∈ lw_all := lw_g (lw_at lw_m3 92 rfl) rfl
theorem q658 : (Jvm.Cond.selects "GrowingDoor$Reader" ({ cls := "GrowingDoor$Reader", name := "isWord", desc := "(Ljava/lang/String;)Z" } : Jvm.MethodName) ({ cls := "GrowingDoor$Reader", name := "isWord", desc := "(Ljava/lang/String;)Z" } : Jvm.MethodName)) ∈ lw_all := lw_g (lw_at lw_m3 93 rfl) rfl
theorem q659 : (Jvm.Cond.code ({ cls := "GrowingDoor$Reader", name := "isWord", desc := "(Ljava/lang/String;)Z" } : Jvm.MethodName) prog_11_method_7_code (5 : Nat) (Option.some Jvm.ClassFile.FieldType.boolean)) ∈ lw_all := lw_g (lw_at lw_m3 94 rfl) rfl
theorem q660 : (Jvm.Cond.methodLink "GrowingDoor$Reader" (30 : Nat) ({ cls := "GrowingDoor$Reader", name := "place", desc := "()I" } : Jvm.MethodName)) ∈ lw_all := lw_g (lw_at lw_m3 95 rfl) rfl
theorem q661 : (Jvm.Cond.methodLink "GrowingDoor$Reader" (33 : Nat) ({ cls := "GrowingDoor$Reader", name := "isSmall", desc := "(I)Z" } : Jvm.MethodName)) ∈ lw_all := lw_g (lw_at lw_m3 96 rfl) rfl
theorem q662 : (Jvm.Cond.static ({ cls := "GrowingDoor$Reader", name := "isSmall", desc := "(I)Z" } : Jvm.MethodName)) ∈ lw_all := lw_g (lw_at lw_m3 97 rfl) rfl
theorem q663 : (Jvm.Cond.code ({ cls := "GrowingDoor$Reader", name := "isSmall", desc := "(I)Z" } : Jvm.MethodName) prog_11_method_5_code (1 : Nat) (Option.some Jvm.ClassFile.FieldType.boolean)) ∈ lw_all := lw_g (lw_at lw_m3 98 rfl) rfl
theorem q664 : (Jvm.Cond.methodLink "GrowingDoor$Reader" (37 : Nat) ({ cls := "java/lang/String", name := "length", desc := "()I" } : Jvm.MethodName)) ∈ lw_all := lw_g (lw_at lw_m3 99 rfl) rfl
theorem q674 : (Jvm.Cond.methodLink "GrowingDoor$Reader" (42 : Nat) ({ cls := "java/lang/String", name := "charAt", desc := "(I)C" } : Jvm.MethodName)) ∈ lw_all := lw_g (lw_at lw_m3 109 rfl) rfl
theorem q745 : (Jvm.Cond.instanceMethod ({ cls := "GrowingDoor$Reader", name := "skipsWord", desc := "()V" } : Jvm.MethodName)) ∈ lw_all := lw_g (lw_at lw_m3 180 rfl) rfl
theorem q746 : (Jvm.Cond.selects "GrowingDoor$Reader" ({ cls := "GrowingDoor$Reader", name := "skipsWord", desc := "()V" } : Jvm.MethodName) ({ cls := "GrowingDoor$Reader", name := "skipsWord", desc := "()V" } : Jvm.MethodName)) ∈ lw_all := lw_g (lw_at lw_m3 181 rfl) rfl
theorem q747 : (Jvm.Cond.code ({ cls := "GrowingDoor$Reader", name := "skipsWord", desc := "()V" } : Jvm.MethodName) prog_11_method_9_code (1 : Nat) (Option.none : Option Jvm.ClassFile.FieldType)) ∈ lw_all := lw_g (lw_at lw_m3 182 rfl) rfl
theorem q749 : (Jvm.Cond.instanceMethod ({ cls := "GrowingDoor$Reader", name := "number", desc := "(II)I" } : Jvm.MethodName)) ∈ lw_all := lw_g (lw_at lw_m3 184 rfl) rfl
theorem q750 : (Jvm.Cond.selects "GrowingDoor$Reader" ({ cls := "GrowingDoor$Reader", name := "number", desc := "(II)I" } : Jvm.MethodName) ({ cls := "GrowingDoor$Reader", name := "number", desc := "(II)I" } : Jvm.MethodName)) ∈ lw_all := lw_g (lw_at lw_m3 185 rfl) rfl
theorem q751 : (Jvm.Cond.code ({ cls := "GrowingDoor$Reader", name := "number", desc := "(II)I" } : Jvm.MethodName) prog_11_method_10_code (5 : Nat) (Option.some Jvm.ClassFile.FieldType.int)) ∈ lw_all := lw_g (lw_at lw_m3 186 rfl) rfl
theorem q752 : (Jvm.Cond.methodLink "GrowingDoor$Reader" (50 : Nat) ({ cls := "GrowingDoor$Reader", name := "isDigit", desc := "(I)Z" } : Jvm.MethodName)) ∈ lw_all := lw_g (lw_at lw_m3 187 rfl) rfl
theorem q753 : (Jvm.Cond.static ({ cls := "GrowingDoor$Reader", name := "isDigit", desc := "(I)Z" } : Jvm.MethodName)) ∈ lw_all := lw_g (lw_at lw_m3 188 rfl) rfl
theorem q754 : (Jvm.Cond.code ({ cls := "GrowingDoor$Reader", name := "isDigit", desc := "(I)Z" } : Jvm.MethodName) prog_11_method_6_code (1 : Nat) (Option.some Jvm.ClassFile.FieldType.boolean)) ∈ lw_all := lw_g (lw_at lw_m3 189 rfl) rfl
theorem q755 : (Jvm.Cond.classLink "GrowingDoor$Reader" (53 : Nat) "GrowingDoor$Wrong") ∈ lw_all := lw_g (lw_at lw_m3 190 rfl) rfl
theorem q756 : (Jvm.Cond.methodLink "GrowingDoor$Reader" (55 : Nat) ({ cls := "GrowingDoor$Wrong", name := "<init>", desc := "(II)V" } : Jvm.MethodName)) ∈ lw_all := lw_g (lw_at lw_m3 191 rfl) rfl
theorem q757 : (Jvm.Cond.constant "GrowingDoor$Reader" (58 : Nat) (1000000 : Int32)) ∈ lw_all := lw_g (lw_at lw_m3 192 rfl) rfl
theorem q758 : (Jvm.Cond.methodLink "GrowingDoor$Reader" (59 : Nat) ({ cls := "java/lang/Math", name := "min", desc := "(II)I" } : Jvm.MethodName)) ∈ lw_all := lw_g (lw_at lw_m3 193 rfl) rfl
theorem q766 : (Jvm.Cond.instanceMethod ({ cls := "GrowingDoor$Reader", name := "sign", desc := "(C)V" } : Jvm.MethodName)) ∈ lw_all := lw_g (lw_at lw_m3 201 rfl) rfl
theorem q767 : (Jvm.Cond.selects "GrowingDoor$Reader" ({ cls := "GrowingDoor$Reader", name := "sign", desc := "(C)V" } : Jvm.MethodName) ({ cls := "GrowingDoor$Reader", name := "sign", desc := "(C)V" } : Jvm.MethodName)) ∈ lw_all := lw_g (lw_at lw_m3 202 rfl) rfl
theorem q768 : (Jvm.Cond.code ({ cls := "GrowingDoor$Reader", name := "sign", desc := "(C)V" } : Jvm.MethodName) prog_11_method_11_code (2 : Nat) (Option.none : Option Jvm.ClassFile.FieldType)) ∈ lw_all := lw_g (lw_at lw_m3 203 rfl) rfl
theorem q823 : (Jvm.Cond.instanceMethod ({ cls := "GrowingDoor$Reader", name := "opens", desc := "()V" } : Jvm.MethodName)) ∈ lw_all := lw_g (lw_at lw_m4 18 rfl) rfl
theorem q824 : (Jvm.Cond.selects "GrowingDoor$Reader" ({ cls := "GrowingDoor$Reader", name := "opens", desc := "()V" } : Jvm.MethodName) ({ cls := "GrowingDoor$Reader", name := "opens", desc := "()V" } : Jvm.MethodName)) ∈ lw_all := lw_g (lw_at lw_m4 19 rfl) rfl
theorem q825 : (Jvm.Cond.code ({ cls := "GrowingDoor$Reader", name := "opens", desc := "()V" } : Jvm.MethodName) prog_11_method_13_code (1 : Nat) (Option.none : Option Jvm.ClassFile.FieldType)) ∈ lw_all := lw_g (lw_at lw_m4 20 rfl) rfl
theorem q829 : (Jvm.Cond.instanceMethod ({ cls := "GrowingDoor$Reader", name := "closes", desc := "()V" } : Jvm.MethodName)) ∈ lw_all := lw_g (lw_at lw_m4 24 rfl) rfl
theorem q830 : (Jvm.Cond.selects "GrowingDoor$Reader" ({ cls := "GrowingDoor$Reader", name := "closes", desc := "()V" } : Jvm.MethodName) ({ cls := "GrowingDoor$Reader", name := "closes", desc := "()V" } : Jvm.MethodName)) ∈ lw_all := lw_g (lw_at lw_m4 25 rfl) rfl
theorem q831 : (Jvm.Cond.code ({ cls := "GrowingDoor$Reader", name := "closes", desc := "()V" } : Jvm.MethodName) prog_11_method_14_code (1 : Nat) (Option.none : Option Jvm.ClassFile.FieldType)) ∈ lw_all := lw_g (lw_at lw_m4 26 rfl) rfl
theorem q872 : (Jvm.Cond.instanceMethod ({ cls := "GrowingDoor$Reader", name := "takesSign", desc := "(C)Z" } : Jvm.MethodName)) ∈ lw_all := lw_g (lw_at lw_m4 67 rfl) rfl
theorem q873 : (Jvm.Cond.selects "GrowingDoor$Reader" ({ cls := "GrowingDoor$Reader", name := "takesSign", desc := "(C)Z" } : Jvm.MethodName) ({ cls := "GrowingDoor$Reader", name := "takesSign", desc := "(C)Z" } : Jvm.MethodName)) ∈ lw_all := lw_g (lw_at lw_m4 68 rfl) rfl
theorem q874 : (Jvm.Cond.code ({ cls := "GrowingDoor$Reader", name := "takesSign", desc := "(C)Z" } : Jvm.MethodName) prog_11_method_12_code (3 : Nat) (Option.some Jvm.ClassFile.FieldType.boolean)) ∈ lw_all := lw_g (lw_at lw_m4 69 rfl) rfl
theorem q876 : (Jvm.Cond.instanceMethod ({ cls := "GrowingDoor$Reader", name := "ends", desc := "()V" } : Jvm.MethodName)) ∈ lw_all := lw_g (lw_at lw_m4 71 rfl) rfl
theorem q877 : (Jvm.Cond.selects "GrowingDoor$Reader" ({ cls := "GrowingDoor$Reader", name := "ends", desc := "()V" } : Jvm.MethodName) ({ cls := "GrowingDoor$Reader", name := "ends", desc := "()V" } : Jvm.MethodName)) ∈ lw_all := lw_g (lw_at lw_m4 72 rfl) rfl
theorem q878 : (Jvm.Cond.code ({ cls := "GrowingDoor$Reader", name := "ends", desc := "()V" } : Jvm.MethodName) prog_11_method_15_code (1 : Nat) (Option.none : Option Jvm.ClassFile.FieldType)) ∈ lw_all := lw_g (lw_at lw_m4 73 rfl) rfl
theorem q2064 : (Jvm.Cond.castable "GrowingDoor$Reader" "java/lang/Object") ∈ lw_tbl := lw_at lw_m9 59 rfl
theorem in_X10 : ∀ w ∈ wsX100, w ∈ lw_all := lw_in wsX100 [597, 599, 601, 603] (by decide +kernel) (by decide +kernel)
/-! GrowingDoor$Wrong -/
set_option maxRecDepth 100000
def RX11 : String := "GrowingDoor$Wrong"
def TX11 : u_T := fun k => match k with
  | 0 => ("java/lang/Throwable", "cause", "Ljava/lang/Throwable;", false)
  | 1 => ("java/lang/Throwable", "stackTrace", "[Ljava/lang/StackTraceElement;", false)
  | 2 => ("java/lang/Throwable", "suppressedExceptions", "Ljava/util/List;", false)
  | 3 => ("java/lang/Throwable", "detailMessage", "Ljava/lang/String;", false)
  | 4 => ("java/lang/Throwable", "backtrace", "Ljava/lang/Object;", false)
  | 5 => ("java/lang/Throwable", "depth", "I", false)
  | 6 => ("GrowingDoor$Wrong", "why", "I", true)
  | _ => ("GrowingDoor$Wrong", "where", "I", true)
def tyX11 : Nat → FieldType := fun k => match k with
  | 0 => .object "java/lang/Throwable"
  | 1 => .array (.object "java/lang/StackTraceElement")
  | 2 => .object "java/util/List"
  | 3 => .object "java/lang/String"
  | 4 => .object "java/lang/Object"
  | 5 => .int
  | 6 => .int
  | _ => .int
abbrev wsX110 : List Cond := u_ws RX11 TX11 8
theorem nmX11 : ∀ a, a < 8 → ∀ b, b < 8 → a ≠ b → (TX11 a).2.1 ≠ (TX11 b).2.1 := by decide +kernel
theorem tyX11_ok : ∀ k, k < 8 → parseFieldDescriptor (TX11 k).2.2.1 = some (tyX11 k) := by decide +kernel
abbrev cX11_init : ByteArray := prog_22_method_1_code
def yX11_init : MethodName := ⟨RX11, "<init>", "(II)V"⟩
def dkwX11_init_0 : List UInt8 := [42, 1, 1, 3, 3, 183, 0, 1, 42, 27, 181, 0, 7, 42, 28, 181, 0, 13, 177]
abbrev dktX11_init_0 : List UInt8 := dkwX11_init_0 ++ []
theorem dksX11_init_0 : cX11_init.data.toList.drop 0 = dktX11_init_0 := by decide +kernel
theorem dX11_init_0 : decode cX11_init 0 = .ok (.aload_n 0, 1) := dk_42 (dk_at dksX11_init_0 0 rfl rfl)
theorem dX11_init_1 : decode cX11_init 1 = .ok (.aconst_null, 1) := dk_1 (dk_at dksX11_init_0 1 rfl rfl)
theorem dX11_init_2 : decode cX11_init 2 = .ok (.aconst_null, 1) := dk_1 (dk_at dksX11_init_0 2 rfl rfl)
theorem dX11_init_3 : decode cX11_init 3 = .ok (.iconst 0, 1) := dk_3 (dk_at dksX11_init_0 3 rfl rfl)
theorem dX11_init_4 : decode cX11_init 4 = .ok (.iconst 0, 1) := dk_3 (dk_at dksX11_init_0 4 rfl rfl)
theorem dX11_init_5 : decode cX11_init 5 = .ok (.invokespecial 1, 3) := dk_183 0 1 (dk_at dksX11_init_0 5 rfl rfl)
theorem dX11_init_8 : decode cX11_init 8 = .ok (.aload_n 0, 1) := dk_42 (dk_at dksX11_init_0 8 rfl rfl)
theorem dX11_init_9 : decode cX11_init 9 = .ok (.iload_n 1, 1) := dk_27 (dk_at dksX11_init_0 9 rfl rfl)
theorem dX11_init_10 : decode cX11_init 10 = .ok (.putfield 7, 3) := dk_181 0 7 (dk_at dksX11_init_0 10 rfl rfl)
theorem dX11_init_13 : decode cX11_init 13 = .ok (.aload_n 0, 1) := dk_42 (dk_at dksX11_init_0 13 rfl rfl)
theorem dX11_init_14 : decode cX11_init 14 = .ok (.iload_n 2, 1) := dk_28 (dk_at dksX11_init_0 14 rfl rfl)
theorem dX11_init_15 : decode cX11_init 15 = .ok (.putfield 13, 3) := dk_181 0 13 (dk_at dksX11_init_0 15 rfl rfl)
theorem dX11_init_18 : decode cX11_init 18 = .ok (.return_, 1) := dk_177 (dk_at dksX11_init_0 18 rfl rfl)
theorem q105 : (Jvm.Cond.initialized "GrowingDoor$Wrong") ∈ lw_all := lw_g (lw_at lw_m1 20 rfl) rfl
theorem q550 : (Jvm.Cond.selects "GrowingDoor$Wrong" ({ cls := "java/lang/Throwable", name := "fillInStackTrace", desc := "()Ljava/lang/Throwable;" } : Jvm.MethodName) ({ cls := "java/lang/Throwable", name := "fillInStackTrace", desc := "()Ljava/lang/Throwable;" } : Jvm.MethodName)) ∈ lw_all := lw_g (lw_at lw_m2 225 rfl) rfl
theorem q713 : (Jvm.Cond.instantiable "GrowingDoor$Wrong" (8 : Nat)) ∈ lw_all := lw_g (lw_at lw_m3 148 rfl) rfl
theorem q714 : (Jvm.Cond.castable "GrowingDoor$Wrong" "GrowingDoor$Wrong") ∈ lw_tbl := lw_at lw_m3 149 rfl
theorem q715 : (Jvm.Cond.selects "GrowingDoor$Wrong" ({ cls := "java/lang/Throwable", name := "fillInStackTrace", desc := "(I)Ljava/lang/Throwable;" } : Jvm.MethodName) ({ cls := "java/lang/Throwable", name := "fillInStackTrace", desc := "(I)Ljava/lang/Throwable;" } : Jvm.MethodName)) ∈ lw_all := lw_g (lw_at lw_m3 150 rfl) rfl
theorem q716 : (Jvm.Cond.lays "GrowingDoor$Wrong" "java/lang/Throwable" "cause" "Ljava/lang/Throwable;") ∈ lw_all := lw_g (lw_at lw_m3 151 rfl) rfl
theorem q717 : (Jvm.Cond.lays "GrowingDoor$Wrong" "java/lang/Throwable" "stackTrace" "[Ljava/lang/StackTraceElement;") ∈ lw_all := lw_g (lw_at lw_m3 152 rfl) rfl
theorem q718 : (Jvm.Cond.lays "GrowingDoor$Wrong" "java/lang/Throwable" "suppressedExceptions" "Ljava/util/List;") ∈ lw_all := lw_g (lw_at lw_m3 153 rfl) rfl
theorem q719 : (Jvm.Cond.lays "GrowingDoor$Wrong" "java/lang/Throwable" "detailMessage" "Ljava/lang/String;") ∈ lw_all := lw_g (lw_at lw_m3 154 rfl) rfl
theorem q720 : (Jvm.Cond.lays "GrowingDoor$Wrong" "java/lang/Throwable" "backtrace" "Ljava/lang/Object;") ∈ lw_all := lw_g (lw_at lw_m3 155 rfl) rfl
theorem q722 : (Jvm.Cond.instanceMethod ({ cls := "GrowingDoor$Wrong", name := "<init>", desc := "(II)V" } : Jvm.MethodName)) ∈ lw_all := lw_g (lw_at lw_m3 157 rfl) rfl
theorem q723 : (Jvm.Cond.code ({ cls := "GrowingDoor$Wrong", name := "<init>", desc := "(II)V" } : Jvm.MethodName) prog_22_method_1_code (3 : Nat) (Option.none : Option Jvm.ClassFile.FieldType)) ∈ lw_all := lw_g (lw_at lw_m3 158 rfl) rfl
theorem q724 : (Jvm.Cond.methodLink "GrowingDoor$Wrong" (1 : Nat) ({ cls := "java/lang/Exception", name := "<init>", desc := "(Ljava/lang/String;Ljava/lang/Throwable;ZZ)V" } : Jvm.MethodName)) ∈ lw_all := lw_g (lw_at lw_m3 159 rfl) rfl
theorem q730 : (Jvm.Cond.fieldLink "GrowingDoor$Wrong" (7 : Nat) "GrowingDoor$Wrong" "why" "I") ∈ lw_all := lw_g (lw_at lw_m3 165 rfl) rfl
theorem q732 : (Jvm.Cond.fieldLink "GrowingDoor$Wrong" (13 : Nat) "GrowingDoor$Wrong" "where" "I") ∈ lw_all := lw_g (lw_at lw_m3 167 rfl) rfl
theorem q734 : (Jvm.Cond.laysFinal "GrowingDoor$Wrong" "GrowingDoor$Wrong" "why" "I") ∈ lw_all := lw_g (lw_at lw_m3 169 rfl) rfl
theorem q735 : (Jvm.Cond.soleField "GrowingDoor$Wrong" "why") ∈ lw_all := lw_g (lw_at lw_m3 170 rfl) rfl
theorem q736 : (Jvm.Cond.laysFinal "GrowingDoor$Wrong" "GrowingDoor$Wrong" "where" "I") ∈ lw_all := lw_g (lw_at lw_m3 171 rfl) rfl
theorem q737 : (Jvm.Cond.soleField "GrowingDoor$Wrong" "where") ∈ lw_all := lw_g (lw_at lw_m3 172 rfl) rfl
theorem q738 : (Jvm.Cond.lays "GrowingDoor$Wrong" "java/lang/Throwable" "depth" "I") ∈ lw_all := lw_g (lw_at lw_m3 173 rfl) rfl
theorem q739 : (Jvm.Cond.superclass "GrowingDoor$Wrong" "java/lang/Exception") ∈ lw_all := lw_g (lw_at lw_m3 174 rfl) rfl
theorem q2065 : (Jvm.Cond.castable "GrowingDoor$Wrong" "java/lang/Object") ∈ lw_tbl := lw_at lw_m9 60 rfl
theorem in_X11 : ∀ w ∈ wsX110, w ∈ lw_all := lw_in wsX110 [716, 717, 718, 719, 720, 738, 734, 736] (by decide +kernel) (by decide +kernel)
/-! GrowingDoor$LawReader -/
set_option maxRecDepth 100000
def RX12 : String := "GrowingDoor$LawReader"
def TX12 : u_T := fun k => match k with
  | 0 => ("GrowingDoor$LawReader", "words", "[Ljava/lang/String;", true)
  | _ => ("GrowingDoor$LawReader", "in", "LGrowingDoor$Reader;", true)
def tyX12 : Nat → FieldType := fun k => match k with
  | 0 => .array (.object "java/lang/String")
  | _ => .object "GrowingDoor$Reader"
abbrev wsX120 : List Cond := u_ws RX12 TX12 2
theorem nmX12 : ∀ a, a < 2 → ∀ b, b < 2 → a ≠ b → (TX12 a).2.1 ≠ (TX12 b).2.1 := by decide +kernel
theorem tyX12_ok : ∀ k, k < 2 → parseFieldDescriptor (TX12 k).2.2.1 = some (tyX12 k) := by decide +kernel
abbrev cX12_init : ByteArray := prog_6_method_1_code
def yX12_init : MethodName := ⟨RX12, "<init>", "(LGrowingDoor$Reader;)V"⟩
def dkwX12_init_2 : List UInt8 := [16, 7, 18, 25, 83, 181, 0, 27, 42, 43, 181, 0, 33, 177]
abbrev dktX12_init_2 : List UInt8 := dkwX12_init_2 ++ []
def dkwX12_init_1 : List UInt8 := [83, 89, 6, 18, 17, 83, 89, 7, 18, 19, 83, 89, 8, 18, 21, 83, 89, 16, 6, 18, 23, 83, 89]
abbrev dktX12_init_1 : List UInt8 := dkwX12_init_1 ++ dktX12_init_2
def dkwX12_init_0 : List UInt8 := [42, 183, 0, 3, 42, 16, 8, 189, 0, 9, 89, 3, 18, 11, 83, 89, 4, 18, 13, 83, 89, 5, 18, 15]
abbrev dktX12_init_0 : List UInt8 := dkwX12_init_0 ++ dktX12_init_1
theorem dksX12_init_0 : cX12_init.data.toList.drop 0 = dktX12_init_0 := by decide +kernel
theorem dksX12_init_1 : cX12_init.data.toList.drop 24 = dktX12_init_1 := dk_seg dksX12_init_0 24 rfl rfl
theorem dksX12_init_2 : cX12_init.data.toList.drop 47 = dktX12_init_2 := dk_seg dksX12_init_1 23 rfl rfl
theorem dX12_init_0 : decode cX12_init 0 = .ok (.aload_n 0, 1) := dk_42 (dk_at dksX12_init_0 0 rfl rfl)
theorem dX12_init_1 : decode cX12_init 1 = .ok (.invokespecial 3, 3) := dk_183 0 3 (dk_at dksX12_init_0 1 rfl rfl)
theorem dX12_init_4 : decode cX12_init 4 = .ok (.aload_n 0, 1) := dk_42 (dk_at dksX12_init_0 4 rfl rfl)
theorem dX12_init_5 : decode cX12_init 5 = .ok (.bipush 8, 2) := dk_16 8 (dk_at dksX12_init_0 5 rfl rfl)
theorem dX12_init_7 : decode cX12_init 7 = .ok (.anewarray 9, 3) := dk_189 0 9 (dk_at dksX12_init_0 7 rfl rfl)
theorem dX12_init_10 : decode cX12_init 10 = .ok (.dup, 1) := dk_89 (dk_at dksX12_init_0 10 rfl rfl)
theorem dX12_init_11 : decode cX12_init 11 = .ok (.iconst 0, 1) := dk_3 (dk_at dksX12_init_0 11 rfl rfl)
theorem dX12_init_12 : decode cX12_init 12 = .ok (.ldc 11, 2) := dk_18 11 (dk_at dksX12_init_0 12 rfl rfl)
theorem dX12_init_14 : decode cX12_init 14 = .ok (.aastore, 1) := dk_83 (dk_at dksX12_init_0 14 rfl rfl)
theorem dX12_init_15 : decode cX12_init 15 = .ok (.dup, 1) := dk_89 (dk_at dksX12_init_0 15 rfl rfl)
theorem dX12_init_16 : decode cX12_init 16 = .ok (.iconst 1, 1) := dk_4 (dk_at dksX12_init_0 16 rfl rfl)
theorem dX12_init_17 : decode cX12_init 17 = .ok (.ldc 13, 2) := dk_18 13 (dk_at dksX12_init_0 17 rfl rfl)
theorem dX12_init_19 : decode cX12_init 19 = .ok (.aastore, 1) := dk_83 (dk_at dksX12_init_0 19 rfl rfl)
theorem dX12_init_20 : decode cX12_init 20 = .ok (.dup, 1) := dk_89 (dk_at dksX12_init_0 20 rfl rfl)
theorem dX12_init_21 : decode cX12_init 21 = .ok (.iconst 2, 1) := dk_5 (dk_at dksX12_init_0 21 rfl rfl)
theorem dX12_init_22 : decode cX12_init 22 = .ok (.ldc 15, 2) := dk_18 15 (dk_at dksX12_init_0 22 rfl rfl)
theorem dX12_init_24 : decode cX12_init 24 = .ok (.aastore, 1) := dk_83 (dk_at dksX12_init_1 0 rfl rfl)
theorem dX12_init_25 : decode cX12_init 25 = .ok (.dup, 1) := dk_89 (dk_at dksX12_init_1 1 rfl rfl)
theorem dX12_init_26 : decode cX12_init 26 = .ok (.iconst 3, 1) := dk_6 (dk_at dksX12_init_1 2 rfl rfl)
theorem dX12_init_27 : decode cX12_init 27 = .ok (.ldc 17, 2) := dk_18 17 (dk_at dksX12_init_1 3 rfl rfl)
theorem dX12_init_29 : decode cX12_init 29 = .ok (.aastore, 1) := dk_83 (dk_at dksX12_init_1 5 rfl rfl)
theorem dX12_init_30 : decode cX12_init 30 = .ok (.dup, 1) := dk_89 (dk_at dksX12_init_1 6 rfl rfl)
theorem dX12_init_31 : decode cX12_init 31 = .ok (.iconst 4, 1) := dk_7 (dk_at dksX12_init_1 7 rfl rfl)
theorem dX12_init_32 : decode cX12_init 32 = .ok (.ldc 19, 2) := dk_18 19 (dk_at dksX12_init_1 8 rfl rfl)
theorem dX12_init_34 : decode cX12_init 34 = .ok (.aastore, 1) := dk_83 (dk_at dksX12_init_1 10 rfl rfl)
theorem dX12_init_35 : decode cX12_init 35 = .ok (.dup, 1) := dk_89 (dk_at dksX12_init_1 11 rfl rfl)
theorem dX12_init_36 : decode cX12_init 36 = .ok (.iconst 5, 1) := dk_8 (dk_at dksX12_init_1 12 rfl rfl)
theorem dX12_init_37 : decode cX12_init 37 = .ok (.ldc 21, 2) := dk_18 21 (dk_at dksX12_init_1 13 rfl rfl)
theorem dX12_init_39 : decode cX12_init 39 = .ok (.aastore, 1) := dk_83 (dk_at dksX12_init_1 15 rfl rfl)
theorem dX12_init_40 : decode cX12_init 40 = .ok (.dup, 1) := dk_89 (dk_at dksX12_init_1 16 rfl rfl)
theorem dX12_init_41 : decode cX12_init 41 = .ok (.bipush 6, 2) := dk_16 6 (dk_at dksX12_init_1 17 rfl rfl)
theorem dX12_init_43 : decode cX12_init 43 = .ok (.ldc 23, 2) := dk_18 23 (dk_at dksX12_init_1 19 rfl rfl)
theorem dX12_init_45 : decode cX12_init 45 = .ok (.aastore, 1) := dk_83 (dk_at dksX12_init_1 21 rfl rfl)
theorem dX12_init_46 : decode cX12_init 46 = .ok (.dup, 1) := dk_89 (dk_at dksX12_init_1 22 rfl rfl)
theorem dX12_init_47 : decode cX12_init 47 = .ok (.bipush 7, 2) := dk_16 7 (dk_at dksX12_init_2 0 rfl rfl)
theorem dX12_init_49 : decode cX12_init 49 = .ok (.ldc 25, 2) := dk_18 25 (dk_at dksX12_init_2 2 rfl rfl)
theorem dX12_init_51 : decode cX12_init 51 = .ok (.aastore, 1) := dk_83 (dk_at dksX12_init_2 4 rfl rfl)
theorem dX12_init_52 : decode cX12_init 52 = .ok (.putfield 27, 3) := dk_181 0 27 (dk_at dksX12_init_2 5 rfl rfl)
theorem dX12_init_55 : decode cX12_init 55 = .ok (.aload_n 0, 1) := dk_42 (dk_at dksX12_init_2 8 rfl rfl)
theorem dX12_init_56 : decode cX12_init 56 = .ok (.aload_n 1, 1) := dk_43 (dk_at dksX12_init_2 9 rfl rfl)
theorem dX12_init_57 : decode cX12_init 57 = .ok (.putfield 33, 3) := dk_181 0 33 (dk_at dksX12_init_2 10 rfl rfl)
theorem dX12_init_60 : decode cX12_init 60 = .ok (.return_, 1) := dk_177 (dk_at dksX12_init_2 13 rfl rfl)
abbrev cX12_reads : ByteArray := prog_6_method_2_code
def yX12_reads : MethodName := ⟨RX12, "reads", "()LGrowingDoor$Term;"⟩
def dkwX12_reads_0 : List UInt8 := [42, 182, 0, 37, 76, 42, 180, 0, 33, 182, 0, 41, 43, 176]
abbrev dktX12_reads_0 : List UInt8 := dkwX12_reads_0 ++ []
theorem dksX12_reads_0 : cX12_reads.data.toList.drop 0 = dktX12_reads_0 := by decide +kernel
theorem dX12_reads_0 : decode cX12_reads 0 = .ok (.aload_n 0, 1) := dk_42 (dk_at dksX12_reads_0 0 rfl rfl)
theorem dX12_reads_1 : decode cX12_reads 1 = .ok (.invokevirtual 37, 3) := dk_182 0 37 (dk_at dksX12_reads_0 1 rfl rfl)
theorem dX12_reads_4 : decode cX12_reads 4 = .ok (.astore_n 1, 1) := dk_76 (dk_at dksX12_reads_0 4 rfl rfl)
theorem dX12_reads_5 : decode cX12_reads 5 = .ok (.aload_n 0, 1) := dk_42 (dk_at dksX12_reads_0 5 rfl rfl)
theorem dX12_reads_6 : decode cX12_reads 6 = .ok (.getfield 33, 3) := dk_180 0 33 (dk_at dksX12_reads_0 6 rfl rfl)
theorem dX12_reads_9 : decode cX12_reads 9 = .ok (.invokevirtual 41, 3) := dk_182 0 41 (dk_at dksX12_reads_0 9 rfl rfl)
theorem dX12_reads_12 : decode cX12_reads 12 = .ok (.aload_n 1, 1) := dk_43 (dk_at dksX12_reads_0 12 rfl rfl)
theorem dX12_reads_13 : decode cX12_reads 13 = .ok (.areturn, 1) := dk_176 (dk_at dksX12_reads_0 13 rfl rfl)
abbrev cX12_sum : ByteArray := prog_6_method_3_code
def yX12_sum : MethodName := ⟨RX12, "sum", "()LGrowingDoor$Term;"⟩
def dkwX12_sum_2 : List UInt8 := [187, 0, 53, 89, 16, 45, 43, 42, 182, 0, 46, 183, 0, 55, 76, 167, 255, 199, 43, 176]
abbrev dktX12_sum_2 : List UInt8 := dkwX12_sum_2 ++ []
def dkwX12_sum_1 : List UInt8 := [42, 182, 0, 46, 183, 0, 55, 76, 167, 255, 229, 42, 180, 0, 33, 16, 45, 182, 0, 49, 153, 0, 21]
abbrev dktX12_sum_1 : List UInt8 := dkwX12_sum_1 ++ dktX12_sum_2
def dkwX12_sum_0 : List UInt8 := [42, 182, 0, 46, 76, 42, 180, 0, 33, 16, 43, 182, 0, 49, 153, 0, 21, 187, 0, 53, 89, 16, 43, 43]
abbrev dktX12_sum_0 : List UInt8 := dkwX12_sum_0 ++ dktX12_sum_1
theorem dksX12_sum_0 : cX12_sum.data.toList.drop 0 = dktX12_sum_0 := by decide +kernel
theorem dksX12_sum_1 : cX12_sum.data.toList.drop 24 = dktX12_sum_1 := dk_seg dksX12_sum_0 24 rfl rfl
theorem dksX12_sum_2 : cX12_sum.data.toList.drop 47 = dktX12_sum_2 := dk_seg dksX12_sum_1 23 rfl rfl
theorem dX12_sum_0 : decode cX12_sum 0 = .ok (.aload_n 0, 1) := dk_42 (dk_at dksX12_sum_0 0 rfl rfl)
theorem dX12_sum_1 : decode cX12_sum 1 = .ok (.invokevirtual 46, 3) := dk_182 0 46 (dk_at dksX12_sum_0 1 rfl rfl)
theorem dX12_sum_4 : decode cX12_sum 4 = .ok (.astore_n 1, 1) := dk_76 (dk_at dksX12_sum_0 4 rfl rfl)
theorem dX12_sum_5 : decode cX12_sum 5 = .ok (.aload_n 0, 1) := dk_42 (dk_at dksX12_sum_0 5 rfl rfl)
theorem dX12_sum_6 : decode cX12_sum 6 = .ok (.getfield 33, 3) := dk_180 0 33 (dk_at dksX12_sum_0 6 rfl rfl)
theorem dX12_sum_9 : decode cX12_sum 9 = .ok (.bipush 43, 2) := dk_16 43 (dk_at dksX12_sum_0 9 rfl rfl)
theorem dX12_sum_11 : decode cX12_sum 11 = .ok (.invokevirtual 49, 3) := dk_182 0 49 (dk_at dksX12_sum_0 11 rfl rfl)
theorem dX12_sum_14 : decode cX12_sum 14 = .ok (.ifCond .eq 21, 3) := dk_153 0 21 (dk_at dksX12_sum_0 14 rfl rfl)
theorem dX12_sum_17 : decode cX12_sum 17 = .ok (.new 53, 3) := dk_187 0 53 (dk_at dksX12_sum_0 17 rfl rfl)
theorem dX12_sum_20 : decode cX12_sum 20 = .ok (.dup, 1) := dk_89 (dk_at dksX12_sum_0 20 rfl rfl)
theorem dX12_sum_21 : decode cX12_sum 21 = .ok (.bipush 43, 2) := dk_16 43 (dk_at dksX12_sum_0 21 rfl rfl)
theorem dX12_sum_23 : decode cX12_sum 23 = .ok (.aload_n 1, 1) := dk_43 (dk_at dksX12_sum_0 23 rfl rfl)
theorem dX12_sum_24 : decode cX12_sum 24 = .ok (.aload_n 0, 1) := dk_42 (dk_at dksX12_sum_1 0 rfl rfl)
theorem dX12_sum_25 : decode cX12_sum 25 = .ok (.invokevirtual 46, 3) := dk_182 0 46 (dk_at dksX12_sum_1 1 rfl rfl)
theorem dX12_sum_28 : decode cX12_sum 28 = .ok (.invokespecial 55, 3) := dk_183 0 55 (dk_at dksX12_sum_1 4 rfl rfl)
theorem dX12_sum_31 : decode cX12_sum 31 = .ok (.astore_n 1, 1) := dk_76 (dk_at dksX12_sum_1 7 rfl rfl)
theorem dX12_sum_32 : decode cX12_sum 32 = .ok (.goto (-27), 3) := dk_167 255 229 (dk_at dksX12_sum_1 8 rfl rfl)
theorem dX12_sum_35 : decode cX12_sum 35 = .ok (.aload_n 0, 1) := dk_42 (dk_at dksX12_sum_1 11 rfl rfl)
theorem dX12_sum_36 : decode cX12_sum 36 = .ok (.getfield 33, 3) := dk_180 0 33 (dk_at dksX12_sum_1 12 rfl rfl)
theorem dX12_sum_39 : decode cX12_sum 39 = .ok (.bipush 45, 2) := dk_16 45 (dk_at dksX12_sum_1 15 rfl rfl)
theorem dX12_sum_41 : decode cX12_sum 41 = .ok (.invokevirtual 49, 3) := dk_182 0 49 (dk_at dksX12_sum_1 17 rfl rfl)
theorem dX12_sum_44 : decode cX12_sum 44 = .ok (.ifCond .eq 21, 3) := dk_153 0 21 (dk_at dksX12_sum_1 20 rfl rfl)
theorem dX12_sum_47 : decode cX12_sum 47 = .ok (.new 53, 3) := dk_187 0 53 (dk_at dksX12_sum_2 0 rfl rfl)
theorem dX12_sum_50 : decode cX12_sum 50 = .ok (.dup, 1) := dk_89 (dk_at dksX12_sum_2 3 rfl rfl)
theorem dX12_sum_51 : decode cX12_sum 51 = .ok (.bipush 45, 2) := dk_16 45 (dk_at dksX12_sum_2 4 rfl rfl)
theorem dX12_sum_53 : decode cX12_sum 53 = .ok (.aload_n 1, 1) := dk_43 (dk_at dksX12_sum_2 6 rfl rfl)
theorem dX12_sum_54 : decode cX12_sum 54 = .ok (.aload_n 0, 1) := dk_42 (dk_at dksX12_sum_2 7 rfl rfl)
theorem dX12_sum_55 : decode cX12_sum 55 = .ok (.invokevirtual 46, 3) := dk_182 0 46 (dk_at dksX12_sum_2 8 rfl rfl)
theorem dX12_sum_58 : decode cX12_sum 58 = .ok (.invokespecial 55, 3) := dk_183 0 55 (dk_at dksX12_sum_2 11 rfl rfl)
theorem dX12_sum_61 : decode cX12_sum 61 = .ok (.astore_n 1, 1) := dk_76 (dk_at dksX12_sum_2 14 rfl rfl)
theorem dX12_sum_62 : decode cX12_sum 62 = .ok (.goto (-57), 3) := dk_167 255 199 (dk_at dksX12_sum_2 15 rfl rfl)
theorem dX12_sum_65 : decode cX12_sum 65 = .ok (.aload_n 1, 1) := dk_43 (dk_at dksX12_sum_2 18 rfl rfl)
theorem dX12_sum_66 : decode cX12_sum 66 = .ok (.areturn, 1) := dk_176 (dk_at dksX12_sum_2 19 rfl rfl)
abbrev cX12_product : ByteArray := prog_6_method_4_code
def yX12_product : MethodName := ⟨RX12, "product", "()LGrowingDoor$Term;"⟩
def dkwX12_product_4 : List UInt8 := [43, 176]
abbrev dktX12_product_4 : List UInt8 := dkwX12_product_4 ++ []
def dkwX12_product_3 : List UInt8 := [182, 0, 49, 153, 0, 21, 187, 0, 53, 89, 16, 37, 43, 42, 182, 0, 58, 183, 0, 55, 76, 167, 255, 169]
abbrev dktX12_product_3 : List UInt8 := dkwX12_product_3 ++ dktX12_product_4
def dkwX12_product_2 : List UInt8 := [187, 0, 53, 89, 16, 47, 43, 42, 182, 0, 58, 183, 0, 55, 76, 167, 255, 199, 42, 180, 0, 33, 16, 37]
abbrev dktX12_product_2 : List UInt8 := dkwX12_product_2 ++ dktX12_product_3
def dkwX12_product_1 : List UInt8 := [42, 182, 0, 58, 183, 0, 55, 76, 167, 255, 229, 42, 180, 0, 33, 16, 47, 182, 0, 49, 153, 0, 21]
abbrev dktX12_product_1 : List UInt8 := dkwX12_product_1 ++ dktX12_product_2
def dkwX12_product_0 : List UInt8 := [42, 182, 0, 58, 76, 42, 180, 0, 33, 16, 42, 182, 0, 49, 153, 0, 21, 187, 0, 53, 89, 16, 42, 43]
abbrev dktX12_product_0 : List UInt8 := dkwX12_product_0 ++ dktX12_product_1
theorem dksX12_product_0 : cX12_product.data.toList.drop 0 = dktX12_product_0 := by decide +kernel
theorem dksX12_product_1 : cX12_product.data.toList.drop 24 = dktX12_product_1 := dk_seg dksX12_product_0 24 rfl rfl
theorem dksX12_product_2 : cX12_product.data.toList.drop 47 = dktX12_product_2 := dk_seg dksX12_product_1 23 rfl rfl
theorem dksX12_product_3 : cX12_product.data.toList.drop 71 = dktX12_product_3 := dk_seg dksX12_product_2 24 rfl rfl
theorem dksX12_product_4 : cX12_product.data.toList.drop 95 = dktX12_product_4 := dk_seg dksX12_product_3 24 rfl rfl
theorem dX12_product_0 : decode cX12_product 0 = .ok (.aload_n 0, 1) := dk_42 (dk_at dksX12_product_0 0 rfl rfl)
theorem dX12_product_1 : decode cX12_product 1 = .ok (.invokevirtual 58, 3) := dk_182 0 58 (dk_at dksX12_product_0 1 rfl rfl)
theorem dX12_product_4 : decode cX12_product 4 = .ok (.astore_n 1, 1) := dk_76 (dk_at dksX12_product_0 4 rfl rfl)
theorem dX12_product_5 : decode cX12_product 5 = .ok (.aload_n 0, 1) := dk_42 (dk_at dksX12_product_0 5 rfl rfl)
theorem dX12_product_6 : decode cX12_product 6 = .ok (.getfield 33, 3) := dk_180 0 33 (dk_at dksX12_product_0 6 rfl rfl)
theorem dX12_product_9 : decode cX12_product 9 = .ok (.bipush 42, 2) := dk_16 42 (dk_at dksX12_product_0 9 rfl rfl)
theorem dX12_product_11 : decode cX12_product 11 = .ok (.invokevirtual 49, 3) := dk_182 0 49 (dk_at dksX12_product_0 11 rfl rfl)
theorem dX12_product_14 : decode cX12_product 14 = .ok (.ifCond .eq 21, 3) := dk_153 0 21 (dk_at dksX12_product_0 14 rfl rfl)
theorem dX12_product_17 : decode cX12_product 17 = .ok (.new 53, 3) := dk_187 0 53 (dk_at dksX12_product_0 17 rfl rfl)
theorem dX12_product_20 : decode cX12_product 20 = .ok (.dup, 1) := dk_89 (dk_at dksX12_product_0 20 rfl rfl)
theorem dX12_product_21 : decode cX12_product 21 = .ok (.bipush 42, 2) := dk_16 42 (dk_at dksX12_product_0 21 rfl rfl)
theorem dX12_product_23 : decode cX12_product 23 = .ok (.aload_n 1, 1) := dk_43 (dk_at dksX12_product_0 23 rfl rfl)
theorem dX12_product_24 : decode cX12_product 24 = .ok (.aload_n 0, 1) := dk_42 (dk_at dksX12_product_1 0 rfl rfl)
theorem dX12_product_25 : decode cX12_product 25 = .ok (.invokevirtual 58, 3) := dk_182 0 58 (dk_at dksX12_product_1 1 rfl rfl)
theorem dX12_product_28 : decode cX12_product 28 = .ok (.invokespecial 55, 3) := dk_183 0 55 (dk_at dksX12_product_1 4 rfl rfl)
theorem dX12_product_31 : decode cX12_product 31 = .ok (.astore_n 1, 1) := dk_76 (dk_at dksX12_product_1 7 rfl rfl)
theorem dX12_product_32 : decode cX12_product 32 = .ok (.goto (-27), 3) := dk_167 255 229 (dk_at dksX12_product_1 8 rfl rfl)
theorem dX12_product_35 : decode cX12_product 35 = .ok (.aload_n 0, 1) := dk_42 (dk_at dksX12_product_1 11 rfl rfl)
theorem dX12_product_36 : decode cX12_product 36 = .ok (.getfield 33, 3) := dk_180 0 33 (dk_at dksX12_product_1 12 rfl rfl)
theorem dX12_product_39 : decode cX12_product 39 = .ok (.bipush 47, 2) := dk_16 47 (dk_at dksX12_product_1 15 rfl rfl)
theorem dX12_product_41 : decode cX12_product 41 = .ok (.invokevirtual 49, 3) := dk_182 0 49 (dk_at dksX12_product_1 17 rfl rfl)
theorem dX12_product_44 : decode cX12_product 44 = .ok (.ifCond .eq 21, 3) := dk_153 0 21 (dk_at dksX12_product_1 20 rfl rfl)
theorem dX12_product_47 : decode cX12_product 47 = .ok (.new 53, 3) := dk_187 0 53 (dk_at dksX12_product_2 0 rfl rfl)
theorem dX12_product_50 : decode cX12_product 50 = .ok (.dup, 1) := dk_89 (dk_at dksX12_product_2 3 rfl rfl)
theorem dX12_product_51 : decode cX12_product 51 = .ok (.bipush 47, 2) := dk_16 47 (dk_at dksX12_product_2 4 rfl rfl)
theorem dX12_product_53 : decode cX12_product 53 = .ok (.aload_n 1, 1) := dk_43 (dk_at dksX12_product_2 6 rfl rfl)
theorem dX12_product_54 : decode cX12_product 54 = .ok (.aload_n 0, 1) := dk_42 (dk_at dksX12_product_2 7 rfl rfl)
theorem dX12_product_55 : decode cX12_product 55 = .ok (.invokevirtual 58, 3) := dk_182 0 58 (dk_at dksX12_product_2 8 rfl rfl)
theorem dX12_product_58 : decode cX12_product 58 = .ok (.invokespecial 55, 3) := dk_183 0 55 (dk_at dksX12_product_2 11 rfl rfl)
theorem dX12_product_61 : decode cX12_product 61 = .ok (.astore_n 1, 1) := dk_76 (dk_at dksX12_product_2 14 rfl rfl)
theorem dX12_product_62 : decode cX12_product 62 = .ok (.goto (-57), 3) := dk_167 255 199 (dk_at dksX12_product_2 15 rfl rfl)
theorem dX12_product_65 : decode cX12_product 65 = .ok (.aload_n 0, 1) := dk_42 (dk_at dksX12_product_2 18 rfl rfl)
theorem dX12_product_66 : decode cX12_product 66 = .ok (.getfield 33, 3) := dk_180 0 33 (dk_at dksX12_product_2 19 rfl rfl)
theorem dX12_product_69 : decode cX12_product 69 = .ok (.bipush 37, 2) := dk_16 37 (dk_at dksX12_product_2 22 rfl rfl)
theorem dX12_product_71 : decode cX12_product 71 = .ok (.invokevirtual 49, 3) := dk_182 0 49 (dk_at dksX12_product_3 0 rfl rfl)
theorem dX12_product_74 : decode cX12_product 74 = .ok (.ifCond .eq 21, 3) := dk_153 0 21 (dk_at dksX12_product_3 3 rfl rfl)
theorem dX12_product_77 : decode cX12_product 77 = .ok (.new 53, 3) := dk_187 0 53 (dk_at dksX12_product_3 6 rfl rfl)
theorem dX12_product_80 : decode cX12_product 80 = .ok (.dup, 1) := dk_89 (dk_at dksX12_product_3 9 rfl rfl)
theorem dX12_product_81 : decode cX12_product 81 = .ok (.bipush 37, 2) := dk_16 37 (dk_at dksX12_product_3 10 rfl rfl)
theorem dX12_product_83 : decode cX12_product 83 = .ok (.aload_n 1, 1) := dk_43 (dk_at dksX12_product_3 12 rfl rfl)
theorem dX12_product_84 : decode cX12_product 84 = .ok (.aload_n 0, 1) := dk_42 (dk_at dksX12_product_3 13 rfl rfl)
theorem dX12_product_85 : decode cX12_product 85 = .ok (.invokevirtual 58, 3) := dk_182 0 58 (dk_at dksX12_product_3 14 rfl rfl)
theorem dX12_product_88 : decode cX12_product 88 = .ok (.invokespecial 55, 3) := dk_183 0 55 (dk_at dksX12_product_3 17 rfl rfl)
theorem dX12_product_91 : decode cX12_product 91 = .ok (.astore_n 1, 1) := dk_76 (dk_at dksX12_product_3 20 rfl rfl)
theorem dX12_product_92 : decode cX12_product 92 = .ok (.goto (-87), 3) := dk_167 255 169 (dk_at dksX12_product_3 21 rfl rfl)
theorem dX12_product_95 : decode cX12_product 95 = .ok (.aload_n 1, 1) := dk_43 (dk_at dksX12_product_4 0 rfl rfl)
theorem dX12_product_96 : decode cX12_product 96 = .ok (.areturn, 1) := dk_176 (dk_at dksX12_product_4 1 rfl rfl)
abbrev cX12_value : ByteArray := prog_6_method_5_code
def yX12_value : MethodName := ⟨RX12, "value", "()LGrowingDoor$Term;"⟩
def dkwX12_value_8 : List UInt8 := [182, 0, 92, 183, 0, 96, 176, 42, 180, 0, 33, 182, 0, 72, 187, 0, 99, 89, 28, 183, 0, 101, 176]
abbrev dktX12_value_8 : List UInt8 := dkwX12_value_8 ++ []
def dkwX12_value_7 : List UInt8 := [180, 0, 27, 182, 0, 86, 61, 28, 2, 160, 0, 22, 187, 0, 90, 89, 42, 180, 0, 33, 3, 17, 3, 231]
abbrev dktX12_value_7 : List UInt8 := dkwX12_value_7 ++ dktX12_value_8
def dkwX12_value_6 : List UInt8 := [42, 180, 0, 33, 16, 41, 182, 0, 75, 42, 180, 0, 33, 182, 0, 79, 44, 176, 42, 180, 0, 33, 42]
abbrev dktX12_value_6 : List UInt8 := dkwX12_value_6 ++ dktX12_value_7
def dkwX12_value_5 : List UInt8 := [160, 0, 42, 42, 180, 0, 33, 182, 0, 69, 42, 180, 0, 33, 16, 40, 182, 0, 75, 42, 182, 0, 37, 77]
abbrev dktX12_value_5 : List UInt8 := dkwX12_value_5 ++ dktX12_value_6
def dkwX12_value_4 : List UInt8 := [16, 91, 167, 0, 5, 16, 93, 44, 45, 183, 0, 55, 176, 42, 180, 0, 33, 182, 0, 82, 16, 40]
abbrev dktX12_value_4 : List UInt8 := dkwX12_value_4 ++ dktX12_value_5
def dkwX12_value_3 : List UInt8 := [180, 0, 33, 16, 93, 182, 0, 75, 42, 180, 0, 33, 182, 0, 79, 187, 0, 53, 89, 27, 153, 0, 8]
abbrev dktX12_value_3 : List UInt8 := dkwX12_value_3 ++ dktX12_value_4
def dkwX12_value_2 : List UInt8 := [182, 0, 75, 42, 182, 0, 37, 77, 42, 180, 0, 33, 16, 44, 182, 0, 75, 42, 182, 0, 37, 78, 42]
abbrev dktX12_value_2 : List UInt8 := dkwX12_value_2 ++ dktX12_value_3
def dkwX12_value_1 : List UInt8 := [153, 0, 82, 42, 180, 0, 33, 182, 0, 69, 42, 180, 0, 33, 182, 0, 72, 42, 180, 0, 33, 16, 91]
abbrev dktX12_value_1 : List UInt8 := dkwX12_value_1 ++ dktX12_value_2
def dkwX12_value_0 : List UInt8 := [42, 180, 0, 33, 18, 61, 182, 0, 63, 60, 27, 154, 0, 15, 42, 180, 0, 33, 18, 67, 182, 0, 63]
abbrev dktX12_value_0 : List UInt8 := dkwX12_value_0 ++ dktX12_value_1
theorem dksX12_value_0 : cX12_value.data.toList.drop 0 = dktX12_value_0 := by decide +kernel
theorem dksX12_value_1 : cX12_value.data.toList.drop 23 = dktX12_value_1 := dk_seg dksX12_value_0 23 rfl rfl
theorem dksX12_value_2 : cX12_value.data.toList.drop 46 = dktX12_value_2 := dk_seg dksX12_value_1 23 rfl rfl
theorem dksX12_value_3 : cX12_value.data.toList.drop 69 = dktX12_value_3 := dk_seg dksX12_value_2 23 rfl rfl
theorem dksX12_value_4 : cX12_value.data.toList.drop 92 = dktX12_value_4 := dk_seg dksX12_value_3 23 rfl rfl
theorem dksX12_value_5 : cX12_value.data.toList.drop 114 = dktX12_value_5 := dk_seg dksX12_value_4 22 rfl rfl
theorem dksX12_value_6 : cX12_value.data.toList.drop 138 = dktX12_value_6 := dk_seg dksX12_value_5 24 rfl rfl
theorem dksX12_value_7 : cX12_value.data.toList.drop 161 = dktX12_value_7 := dk_seg dksX12_value_6 23 rfl rfl
theorem dksX12_value_8 : cX12_value.data.toList.drop 185 = dktX12_value_8 := dk_seg dksX12_value_7 24 rfl rfl
theorem dX12_value_0 : decode cX12_value 0 = .ok (.aload_n 0, 1) := dk_42 (dk_at dksX12_value_0 0 rfl rfl)
theorem dX12_value_1 : decode cX12_value 1 = .ok (.getfield 33, 3) := dk_180 0 33 (dk_at dksX12_value_0 1 rfl rfl)
theorem dX12_value_4 : decode cX12_value 4 = .ok (.ldc 61, 2) := dk_18 61 (dk_at dksX12_value_0 4 rfl rfl)
theorem dX12_value_6 : decode cX12_value 6 = .ok (.invokevirtual 63, 3) := dk_182 0 63 (dk_at dksX12_value_0 6 rfl rfl)
theorem dX12_value_9 : decode cX12_value 9 = .ok (.istore_n 1, 1) := dk_60 (dk_at dksX12_value_0 9 rfl rfl)
theorem dX12_value_10 : decode cX12_value 10 = .ok (.iload_n 1, 1) := dk_27 (dk_at dksX12_value_0 10 rfl rfl)
theorem dX12_value_11 : decode cX12_value 11 = .ok (.ifCond .ne 15, 3) := dk_154 0 15 (dk_at dksX12_value_0 11 rfl rfl)
theorem dX12_value_14 : decode cX12_value 14 = .ok (.aload_n 0, 1) := dk_42 (dk_at dksX12_value_0 14 rfl rfl)
theorem dX12_value_15 : decode cX12_value 15 = .ok (.getfield 33, 3) := dk_180 0 33 (dk_at dksX12_value_0 15 rfl rfl)
theorem dX12_value_18 : decode cX12_value 18 = .ok (.ldc 67, 2) := dk_18 67 (dk_at dksX12_value_0 18 rfl rfl)
theorem dX12_value_20 : decode cX12_value 20 = .ok (.invokevirtual 63, 3) := dk_182 0 63 (dk_at dksX12_value_0 20 rfl rfl)
theorem dX12_value_23 : decode cX12_value 23 = .ok (.ifCond .eq 82, 3) := dk_153 0 82 (dk_at dksX12_value_1 0 rfl rfl)
theorem dX12_value_26 : decode cX12_value 26 = .ok (.aload_n 0, 1) := dk_42 (dk_at dksX12_value_1 3 rfl rfl)
theorem dX12_value_27 : decode cX12_value 27 = .ok (.getfield 33, 3) := dk_180 0 33 (dk_at dksX12_value_1 4 rfl rfl)
theorem dX12_value_30 : decode cX12_value 30 = .ok (.invokevirtual 69, 3) := dk_182 0 69 (dk_at dksX12_value_1 7 rfl rfl)
theorem dX12_value_33 : decode cX12_value 33 = .ok (.aload_n 0, 1) := dk_42 (dk_at dksX12_value_1 10 rfl rfl)
theorem dX12_value_34 : decode cX12_value 34 = .ok (.getfield 33, 3) := dk_180 0 33 (dk_at dksX12_value_1 11 rfl rfl)
theorem dX12_value_37 : decode cX12_value 37 = .ok (.invokevirtual 72, 3) := dk_182 0 72 (dk_at dksX12_value_1 14 rfl rfl)
theorem dX12_value_40 : decode cX12_value 40 = .ok (.aload_n 0, 1) := dk_42 (dk_at dksX12_value_1 17 rfl rfl)
theorem dX12_value_41 : decode cX12_value 41 = .ok (.getfield 33, 3) := dk_180 0 33 (dk_at dksX12_value_1 18 rfl rfl)
theorem dX12_value_44 : decode cX12_value 44 = .ok (.bipush 91, 2) := dk_16 91 (dk_at dksX12_value_1 21 rfl rfl)
theorem dX12_value_46 : decode cX12_value 46 = .ok (.invokevirtual 75, 3) := dk_182 0 75 (dk_at dksX12_value_2 0 rfl rfl)
theorem dX12_value_49 : decode cX12_value 49 = .ok (.aload_n 0, 1) := dk_42 (dk_at dksX12_value_2 3 rfl rfl)
theorem dX12_value_50 : decode cX12_value 50 = .ok (.invokevirtual 37, 3) := dk_182 0 37 (dk_at dksX12_value_2 4 rfl rfl)
theorem dX12_value_53 : decode cX12_value 53 = .ok (.astore_n 2, 1) := dk_77 (dk_at dksX12_value_2 7 rfl rfl)
theorem dX12_value_54 : decode cX12_value 54 = .ok (.aload_n 0, 1) := dk_42 (dk_at dksX12_value_2 8 rfl rfl)
theorem dX12_value_55 : decode cX12_value 55 = .ok (.getfield 33, 3) := dk_180 0 33 (dk_at dksX12_value_2 9 rfl rfl)
theorem dX12_value_58 : decode cX12_value 58 = .ok (.bipush 44, 2) := dk_16 44 (dk_at dksX12_value_2 12 rfl rfl)
theorem dX12_value_60 : decode cX12_value 60 = .ok (.invokevirtual 75, 3) := dk_182 0 75 (dk_at dksX12_value_2 14 rfl rfl)
theorem dX12_value_63 : decode cX12_value 63 = .ok (.aload_n 0, 1) := dk_42 (dk_at dksX12_value_2 17 rfl rfl)
theorem dX12_value_64 : decode cX12_value 64 = .ok (.invokevirtual 37, 3) := dk_182 0 37 (dk_at dksX12_value_2 18 rfl rfl)
theorem dX12_value_67 : decode cX12_value 67 = .ok (.astore_n 3, 1) := dk_78 (dk_at dksX12_value_2 21 rfl rfl)
theorem dX12_value_68 : decode cX12_value 68 = .ok (.aload_n 0, 1) := dk_42 (dk_at dksX12_value_2 22 rfl rfl)
theorem dX12_value_69 : decode cX12_value 69 = .ok (.getfield 33, 3) := dk_180 0 33 (dk_at dksX12_value_3 0 rfl rfl)
theorem dX12_value_72 : decode cX12_value 72 = .ok (.bipush 93, 2) := dk_16 93 (dk_at dksX12_value_3 3 rfl rfl)
theorem dX12_value_74 : decode cX12_value 74 = .ok (.invokevirtual 75, 3) := dk_182 0 75 (dk_at dksX12_value_3 5 rfl rfl)
theorem dX12_value_77 : decode cX12_value 77 = .ok (.aload_n 0, 1) := dk_42 (dk_at dksX12_value_3 8 rfl rfl)
theorem dX12_value_78 : decode cX12_value 78 = .ok (.getfield 33, 3) := dk_180 0 33 (dk_at dksX12_value_3 9 rfl rfl)
theorem dX12_value_81 : decode cX12_value 81 = .ok (.invokevirtual 79, 3) := dk_182 0 79 (dk_at dksX12_value_3 12 rfl rfl)
theorem dX12_value_84 : decode cX12_value 84 = .ok (.new 53, 3) := dk_187 0 53 (dk_at dksX12_value_3 15 rfl rfl)
theorem dX12_value_87 : decode cX12_value 87 = .ok (.dup, 1) := dk_89 (dk_at dksX12_value_3 18 rfl rfl)
theorem dX12_value_88 : decode cX12_value 88 = .ok (.iload_n 1, 1) := dk_27 (dk_at dksX12_value_3 19 rfl rfl)
theorem dX12_value_89 : decode cX12_value 89 = .ok (.ifCond .eq 8, 3) := dk_153 0 8 (dk_at dksX12_value_3 20 rfl rfl)
theorem dX12_value_92 : decode cX12_value 92 = .ok (.bipush 91, 2) := dk_16 91 (dk_at dksX12_value_4 0 rfl rfl)
theorem dX12_value_94 : decode cX12_value 94 = .ok (.goto 5, 3) := dk_167 0 5 (dk_at dksX12_value_4 2 rfl rfl)
theorem dX12_value_97 : decode cX12_value 97 = .ok (.bipush 93, 2) := dk_16 93 (dk_at dksX12_value_4 5 rfl rfl)
theorem dX12_value_99 : decode cX12_value 99 = .ok (.aload_n 2, 1) := dk_44 (dk_at dksX12_value_4 7 rfl rfl)
theorem dX12_value_100 : decode cX12_value 100 = .ok (.aload_n 3, 1) := dk_45 (dk_at dksX12_value_4 8 rfl rfl)
theorem dX12_value_101 : decode cX12_value 101 = .ok (.invokespecial 55, 3) := dk_183 0 55 (dk_at dksX12_value_4 9 rfl rfl)
theorem dX12_value_104 : decode cX12_value 104 = .ok (.areturn, 1) := dk_176 (dk_at dksX12_value_4 12 rfl rfl)
theorem dX12_value_105 : decode cX12_value 105 = .ok (.aload_n 0, 1) := dk_42 (dk_at dksX12_value_4 13 rfl rfl)
theorem dX12_value_106 : decode cX12_value 106 = .ok (.getfield 33, 3) := dk_180 0 33 (dk_at dksX12_value_4 14 rfl rfl)
theorem dX12_value_109 : decode cX12_value 109 = .ok (.invokevirtual 82, 3) := dk_182 0 82 (dk_at dksX12_value_4 17 rfl rfl)
theorem dX12_value_112 : decode cX12_value 112 = .ok (.bipush 40, 2) := dk_16 40 (dk_at dksX12_value_4 20 rfl rfl)
theorem dX12_value_114 : decode cX12_value 114 = .ok (.if_icmp .ne 42, 3) := dk_160 0 42 (dk_at dksX12_value_5 0 rfl rfl)
theorem dX12_value_117 : decode cX12_value 117 = .ok (.aload_n 0, 1) := dk_42 (dk_at dksX12_value_5 3 rfl rfl)
theorem dX12_value_118 : decode cX12_value 118 = .ok (.getfield 33, 3) := dk_180 0 33 (dk_at dksX12_value_5 4 rfl rfl)
theorem dX12_value_121 : decode cX12_value 121 = .ok (.invokevirtual 69, 3) := dk_182 0 69 (dk_at dksX12_value_5 7 rfl rfl)
theorem dX12_value_124 : decode cX12_value 124 = .ok (.aload_n 0, 1) := dk_42 (dk_at dksX12_value_5 10 rfl rfl)
theorem dX12_value_125 : decode cX12_value 125 = .ok (.getfield 33, 3) := dk_180 0 33 (dk_at dksX12_value_5 11 rfl rfl)
theorem dX12_value_128 : decode cX12_value 128 = .ok (.bipush 40, 2) := dk_16 40 (dk_at dksX12_value_5 14 rfl rfl)
theorem dX12_value_130 : decode cX12_value 130 = .ok (.invokevirtual 75, 3) := dk_182 0 75 (dk_at dksX12_value_5 16 rfl rfl)
theorem dX12_value_133 : decode cX12_value 133 = .ok (.aload_n 0, 1) := dk_42 (dk_at dksX12_value_5 19 rfl rfl)
theorem dX12_value_134 : decode cX12_value 134 = .ok (.invokevirtual 37, 3) := dk_182 0 37 (dk_at dksX12_value_5 20 rfl rfl)
theorem dX12_value_137 : decode cX12_value 137 = .ok (.astore_n 2, 1) := dk_77 (dk_at dksX12_value_5 23 rfl rfl)
theorem dX12_value_138 : decode cX12_value 138 = .ok (.aload_n 0, 1) := dk_42 (dk_at dksX12_value_6 0 rfl rfl)
theorem dX12_value_139 : decode cX12_value 139 = .ok (.getfield 33, 3) := dk_180 0 33 (dk_at dksX12_value_6 1 rfl rfl)
theorem dX12_value_142 : decode cX12_value 142 = .ok (.bipush 41, 2) := dk_16 41 (dk_at dksX12_value_6 4 rfl rfl)
theorem dX12_value_144 : decode cX12_value 144 = .ok (.invokevirtual 75, 3) := dk_182 0 75 (dk_at dksX12_value_6 6 rfl rfl)
theorem dX12_value_147 : decode cX12_value 147 = .ok (.aload_n 0, 1) := dk_42 (dk_at dksX12_value_6 9 rfl rfl)
theorem dX12_value_148 : decode cX12_value 148 = .ok (.getfield 33, 3) := dk_180 0 33 (dk_at dksX12_value_6 10 rfl rfl)
theorem dX12_value_151 : decode cX12_value 151 = .ok (.invokevirtual 79, 3) := dk_182 0 79 (dk_at dksX12_value_6 13 rfl rfl)
theorem dX12_value_154 : decode cX12_value 154 = .ok (.aload_n 2, 1) := dk_44 (dk_at dksX12_value_6 16 rfl rfl)
theorem dX12_value_155 : decode cX12_value 155 = .ok (.areturn, 1) := dk_176 (dk_at dksX12_value_6 17 rfl rfl)
theorem dX12_value_156 : decode cX12_value 156 = .ok (.aload_n 0, 1) := dk_42 (dk_at dksX12_value_6 18 rfl rfl)
theorem dX12_value_157 : decode cX12_value 157 = .ok (.getfield 33, 3) := dk_180 0 33 (dk_at dksX12_value_6 19 rfl rfl)
theorem dX12_value_160 : decode cX12_value 160 = .ok (.aload_n 0, 1) := dk_42 (dk_at dksX12_value_6 22 rfl rfl)
theorem dX12_value_161 : decode cX12_value 161 = .ok (.getfield 27, 3) := dk_180 0 27 (dk_at dksX12_value_7 0 rfl rfl)
theorem dX12_value_164 : decode cX12_value 164 = .ok (.invokevirtual 86, 3) := dk_182 0 86 (dk_at dksX12_value_7 3 rfl rfl)
theorem dX12_value_167 : decode cX12_value 167 = .ok (.istore_n 2, 1) := dk_61 (dk_at dksX12_value_7 6 rfl rfl)
theorem dX12_value_168 : decode cX12_value 168 = .ok (.iload_n 2, 1) := dk_28 (dk_at dksX12_value_7 7 rfl rfl)
theorem dX12_value_169 : decode cX12_value 169 = .ok (.iconst (-1), 1) := dk_2 (dk_at dksX12_value_7 8 rfl rfl)
theorem dX12_value_170 : decode cX12_value 170 = .ok (.if_icmp .ne 22, 3) := dk_160 0 22 (dk_at dksX12_value_7 9 rfl rfl)
theorem dX12_value_173 : decode cX12_value 173 = .ok (.new 90, 3) := dk_187 0 90 (dk_at dksX12_value_7 12 rfl rfl)
theorem dX12_value_176 : decode cX12_value 176 = .ok (.dup, 1) := dk_89 (dk_at dksX12_value_7 15 rfl rfl)
theorem dX12_value_177 : decode cX12_value 177 = .ok (.aload_n 0, 1) := dk_42 (dk_at dksX12_value_7 16 rfl rfl)
theorem dX12_value_178 : decode cX12_value 178 = .ok (.getfield 33, 3) := dk_180 0 33 (dk_at dksX12_value_7 17 rfl rfl)
theorem dX12_value_181 : decode cX12_value 181 = .ok (.iconst 0, 1) := dk_3 (dk_at dksX12_value_7 20 rfl rfl)
theorem dX12_value_182 : decode cX12_value 182 = .ok (.sipush 999, 3) := dk_17 3 231 (dk_at dksX12_value_7 21 rfl rfl)
theorem dX12_value_185 : decode cX12_value 185 = .ok (.invokevirtual 92, 3) := dk_182 0 92 (dk_at dksX12_value_8 0 rfl rfl)
theorem dX12_value_188 : decode cX12_value 188 = .ok (.invokespecial 96, 3) := dk_183 0 96 (dk_at dksX12_value_8 3 rfl rfl)
theorem dX12_value_191 : decode cX12_value 191 = .ok (.areturn, 1) := dk_176 (dk_at dksX12_value_8 6 rfl rfl)
theorem dX12_value_192 : decode cX12_value 192 = .ok (.aload_n 0, 1) := dk_42 (dk_at dksX12_value_8 7 rfl rfl)
theorem dX12_value_193 : decode cX12_value 193 = .ok (.getfield 33, 3) := dk_180 0 33 (dk_at dksX12_value_8 8 rfl rfl)
theorem dX12_value_196 : decode cX12_value 196 = .ok (.invokevirtual 72, 3) := dk_182 0 72 (dk_at dksX12_value_8 11 rfl rfl)
theorem dX12_value_199 : decode cX12_value 199 = .ok (.new 99, 3) := dk_187 0 99 (dk_at dksX12_value_8 14 rfl rfl)
theorem dX12_value_202 : decode cX12_value 202 = .ok (.dup, 1) := dk_89 (dk_at dksX12_value_8 17 rfl rfl)
theorem dX12_value_203 : decode cX12_value 203 = .ok (.iload_n 2, 1) := dk_28 (dk_at dksX12_value_8 18 rfl rfl)
theorem dX12_value_204 : decode cX12_value 204 = .ok (.invokespecial 101, 3) := dk_183 0 101 (dk_at dksX12_value_8 19 rfl rfl)
theorem dX12_value_207 : decode cX12_value 207 = .ok (.areturn, 1) := dk_176 (dk_at dksX12_value_8 22 rfl rfl)
theorem q107 : (Jvm.Cond.initialized "GrowingDoor$LawReader") ∈ lw_all := lw_g (lw_at lw_m1 22 rfl) rfl
theorem q782 : (Jvm.Cond.instantiable "GrowingDoor$LawReader" (2 : Nat)) ∈ lw_all := lw_g (lw_at lw_m3 217 rfl) rfl
theorem q784 : (Jvm.Cond.instanceMethod ({ cls := "GrowingDoor$LawReader", name := "<init>", desc := "(LGrowingDoor$Reader;)V" } : Jvm.MethodName)) ∈ lw_all := lw_g (lw_at lw_m3 219 rfl) rfl
theorem q785 : (Jvm.Cond.code ({ cls := "GrowingDoor$LawReader", name := "<init>", desc := "(LGrowingDoor$Reader;)V" } : Jvm.MethodName) prog_6_method_1_code (2 : Nat) (Option.none : Option Jvm.ClassFile.FieldType)) ∈ lw_all := lw_g (lw_at lw_m3 220 rfl) rfl
theorem q786 : (Jvm.Cond.methodLink "GrowingDoor$LawReader" (3 : Nat) ({ cls := "java/lang/Object", name := "<init>", desc := "()V" } : Jvm.MethodName)) ∈ lw_all := lw_g (lw_at lw_m3 221 rfl) rfl
theorem q787 : (Jvm.Cond.classLink "GrowingDoor$LawReader" (9 : Nat) "java/lang/String") ∈ lw_all := lw_g (lw_at lw_m3 222 rfl) rfl
theorem q788 : (Jvm.Cond.stringRef "GrowingDoor$LawReader" (11 : Nat) "food") ∈ lw_tbl := lw_at lw_m3 223 rfl
theorem q789 : (Jvm.Cond.stringRef "GrowingDoor$LawReader" (13 : Nat) "high") ∈ lw_tbl := lw_at lw_m3 224 rfl
theorem q790 : (Jvm.Cond.stringRef "GrowingDoor$LawReader" (15 : Nat) "kin") ∈ lw_tbl := lw_at lw_m3 225 rfl
theorem q791 : (Jvm.Cond.stringRef "GrowingDoor$LawReader" (17 : Nat) "rain") ∈ lw_tbl := lw_at lw_m3 226 rfl
theorem q792 : (Jvm.Cond.stringRef "GrowingDoor$LawReader" (19 : Nat) "gain") ∈ lw_tbl := lw_at lw_m3 227 rfl
theorem q793 : (Jvm.Cond.stringRef "GrowingDoor$LawReader" (21 : Nat) "month") ∈ lw_tbl := lw_at lw_m3 228 rfl
theorem q794 : (Jvm.Cond.stringRef "GrowingDoor$LawReader" (23 : Nat) "door") ∈ lw_tbl := lw_at lw_m3 229 rfl
theorem q795 : (Jvm.Cond.stringRef "GrowingDoor$LawReader" (25 : Nat) "boy") ∈ lw_tbl := lw_at lw_m3 230 rfl
theorem q796 : (Jvm.Cond.fieldLink "GrowingDoor$LawReader" (27 : Nat) "GrowingDoor$LawReader" "words" "[Ljava/lang/String;") ∈ lw_all := lw_g (lw_at lw_m3 231 rfl) rfl
theorem q797 : (Jvm.Cond.fieldLink "GrowingDoor$LawReader" (33 : Nat) "GrowingDoor$LawReader" "in" "LGrowingDoor$Reader;") ∈ lw_all := lw_g (lw_at lw_m3 232 rfl) rfl
theorem q798 : (Jvm.Cond.laysFinal "GrowingDoor$LawReader" "GrowingDoor$LawReader" "words" "[Ljava/lang/String;") ∈ lw_all := lw_g (lw_at lw_m3 233 rfl) rfl
theorem q799 : (Jvm.Cond.soleField "GrowingDoor$LawReader" "words") ∈ lw_all := lw_g (lw_at lw_m3 234 rfl) rfl
theorem q800 : (Jvm.Cond.laysFinal "GrowingDoor$LawReader" "GrowingDoor$LawReader" "in" "LGrowingDoor$Reader;") ∈ lw_all := lw_g (lw_at lw_m3 235 rfl) rfl
theorem q801 : (Jvm.Cond.soleField "GrowingDoor$LawReader" "in") ∈ lw_all := lw_g (lw_at lw_m3 236 rfl) rfl
theorem q802 : (Jvm.Cond.superclass "GrowingDoor$LawReader" "java/lang/Object") ∈ lw_all := lw_g (lw_at lw_m3 237 rfl) rfl
theorem q804 : (Jvm.Cond.instanceMethod ({ cls := "GrowingDoor$LawReader", name := "reads", desc := "()LGrowingDoor$Term;" } : Jvm.MethodName)) ∈ lw_all := lw_g (lw_at lw_m3 239 rfl) rfl
theorem q805 : (Jvm.Cond.selects "GrowingDoor$LawReader" ({ cls := "GrowingDoor$LawReader", name := "reads", desc := "()LGrowingDoor$Term;" } : Jvm.MethodName) ({ cls := "GrowingDoor$LawReader", name := "reads", desc := "()LGrowingDoor$Term;" } : Jvm.MethodName)) ∈ lw_all := lw_g (lw_at lw_m4 0 rfl) rfl
theorem q806 : (Jvm.Cond.code ({ cls := "GrowingDoor$LawReader", name := "reads", desc := "()LGrowingDoor$Term;" } : Jvm.MethodName) prog_6_method_2_code (2 : Nat) (Option.some (Jvm.ClassFile.FieldType.object "GrowingDoor$Term"))) ∈ lw_all := lw_g (lw_at lw_m4 1 rfl) rfl
theorem q807 : (Jvm.Cond.methodLink "GrowingDoor$LawReader" (37 : Nat) ({ cls := "GrowingDoor$LawReader", name := "sum", desc := "()LGrowingDoor$Term;" } : Jvm.MethodName)) ∈ lw_all := lw_g (lw_at lw_m4 2 rfl) rfl
theorem q808 : (Jvm.Cond.privateMethod ({ cls := "GrowingDoor$LawReader", name := "sum", desc := "()LGrowingDoor$Term;" } : Jvm.MethodName)) ∈ lw_tbl := lw_at lw_m4 3 rfl
theorem q809 : (Jvm.Cond.instanceMethod ({ cls := "GrowingDoor$LawReader", name := "sum", desc := "()LGrowingDoor$Term;" } : Jvm.MethodName)) ∈ lw_all := lw_g (lw_at lw_m4 4 rfl) rfl
theorem q810 : (Jvm.Cond.code ({ cls := "GrowingDoor$LawReader", name := "sum", desc := "()LGrowingDoor$Term;" } : Jvm.MethodName) prog_6_method_3_code (2 : Nat) (Option.some (Jvm.ClassFile.FieldType.object "GrowingDoor$Term"))) ∈ lw_all := lw_g (lw_at lw_m4 5 rfl) rfl
theorem q811 : (Jvm.Cond.methodLink "GrowingDoor$LawReader" (46 : Nat) ({ cls := "GrowingDoor$LawReader", name := "product", desc := "()LGrowingDoor$Term;" } : Jvm.MethodName)) ∈ lw_all := lw_g (lw_at lw_m4 6 rfl) rfl
theorem q812 : (Jvm.Cond.privateMethod ({ cls := "GrowingDoor$LawReader", name := "product", desc := "()LGrowingDoor$Term;" } : Jvm.MethodName)) ∈ lw_tbl := lw_at lw_m4 7 rfl
theorem q813 : (Jvm.Cond.instanceMethod ({ cls := "GrowingDoor$LawReader", name := "product", desc := "()LGrowingDoor$Term;" } : Jvm.MethodName)) ∈ lw_all := lw_g (lw_at lw_m4 8 rfl) rfl
theorem q814 : (Jvm.Cond.code ({ cls := "GrowingDoor$LawReader", name := "product", desc := "()LGrowingDoor$Term;" } : Jvm.MethodName) prog_6_method_4_code (2 : Nat) (Option.some (Jvm.ClassFile.FieldType.object "GrowingDoor$Term"))) ∈ lw_all := lw_g (lw_at lw_m4 9 rfl) rfl
theorem q815 : (Jvm.Cond.methodLink "GrowingDoor$LawReader" (58 : Nat) ({ cls := "GrowingDoor$LawReader", name := "value", desc := "()LGrowingDoor$Term;" } : Jvm.MethodName)) ∈ lw_all := lw_g (lw_at lw_m4 10 rfl) rfl
theorem q816 : (Jvm.Cond.privateMethod ({ cls := "GrowingDoor$LawReader", name := "value", desc := "()LGrowingDoor$Term;" } : Jvm.MethodName)) ∈ lw_tbl := lw_at lw_m4 11 rfl
theorem q817 : (Jvm.Cond.instanceMethod ({ cls := "GrowingDoor$LawReader", name := "value", desc := "()LGrowingDoor$Term;" } : Jvm.MethodName)) ∈ lw_all := lw_g (lw_at lw_m4 12 rfl) rfl
theorem q818 : (Jvm.Cond.code ({ cls := "GrowingDoor$LawReader", name := "value", desc := "()LGrowingDoor$Term;" } : Jvm.MethodName) prog_6_method_5_code (4 : Nat) (Option.some (Jvm.ClassFile.FieldType.object "GrowingDoor$Term"))) ∈ lw_all := lw_g (lw_at lw_m4 13 rfl) rfl
theorem q819 : (Jvm.Cond.stringRef "GrowingDoor$LawReader" (61 : Nat) "least") ∈ lw_tbl := lw_at lw_m4 14 rfl
theorem q820 : (Jvm.Cond.methodLink "GrowingDoor$LawReader" (63 : Nat) ({ cls := "GrowingDoor$Reader", name := "isWord", desc := "(Ljava/lang/String;)Z" } : Jvm.MethodName)) ∈ lw_all := lw_g (lw_at lw_m4 15 rfl) rfl
theorem q821 : (Jvm.Cond.stringRef "GrowingDoor$LawReader" (67 : Nat) "most") ∈ lw_tbl := lw_at lw_m4 16 rfl
theorem q822 : (Jvm.Cond.methodLink "GrowingDoor$LawReader" (69 : Nat) ({ cls := "GrowingDoor$Reader", name := "opens", desc := "()V" } : Jvm.MethodName)) ∈ lw_all := lw_g (lw_at lw_m4 17 rfl) rfl
theorem q826 : (Jvm.Cond.methodLink "GrowingDoor$LawReader" (72 : Nat) ({ cls := "GrowingDoor$Reader", name := "skipsWord", desc := "()V" } : Jvm.MethodName)) ∈ lw_all := lw_g (lw_at lw_m4 21 rfl) rfl
theorem q827 : (Jvm.Cond.methodLink "GrowingDoor$LawReader" (75 : Nat) ({ cls := "GrowingDoor$Reader", name := "sign", desc := "(C)V" } : Jvm.MethodName)) ∈ lw_all := lw_g (lw_at lw_m4 22 rfl) rfl
theorem q828 : (Jvm.Cond.methodLink "GrowingDoor$LawReader" (79 : Nat) ({ cls := "GrowingDoor$Reader", name := "closes", desc := "()V" } : Jvm.MethodName)) ∈ lw_all := lw_g (lw_at lw_m4 23 rfl) rfl
theorem q832 : (Jvm.Cond.classLink "GrowingDoor$LawReader" (53 : Nat) "GrowingDoor$Two") ∈ lw_all := lw_g (lw_at lw_m4 27 rfl) rfl
theorem q834 : (Jvm.Cond.methodLink "GrowingDoor$LawReader" (55 : Nat) ({ cls := "GrowingDoor$Two", name := "<init>", desc := "(CLGrowingDoor$Term;LGrowingDoor$Term;)V" } : Jvm.MethodName)) ∈ lw_all := lw_g (lw_at lw_m4 29 rfl) rfl
theorem q848 : (Jvm.Cond.methodLink "GrowingDoor$LawReader" (82 : Nat) ({ cls := "GrowingDoor$Reader", name := "now", desc := "()I" } : Jvm.MethodName)) ∈ lw_all := lw_g (lw_at lw_m4 43 rfl) rfl
theorem q849 : (Jvm.Cond.methodLink "GrowingDoor$LawReader" (86 : Nat) ({ cls := "GrowingDoor$Reader", name := "which", desc := "([Ljava/lang/String;)I" } : Jvm.MethodName)) ∈ lw_all := lw_g (lw_at lw_m4 44 rfl) rfl
theorem q850 : (Jvm.Cond.classLink "GrowingDoor$LawReader" (90 : Nat) "GrowingDoor$Amount") ∈ lw_all := lw_g (lw_at lw_m4 45 rfl) rfl
theorem q852 : (Jvm.Cond.methodLink "GrowingDoor$LawReader" (92 : Nat) ({ cls := "GrowingDoor$Reader", name := "number", desc := "(II)I" } : Jvm.MethodName)) ∈ lw_all := lw_g (lw_at lw_m4 47 rfl) rfl
theorem q853 : (Jvm.Cond.methodLink "GrowingDoor$LawReader" (96 : Nat) ({ cls := "GrowingDoor$Amount", name := "<init>", desc := "(I)V" } : Jvm.MethodName)) ∈ lw_all := lw_g (lw_at lw_m4 48 rfl) rfl
theorem q861 : (Jvm.Cond.classLink "GrowingDoor$LawReader" (99 : Nat) "GrowingDoor$Known") ∈ lw_all := lw_g (lw_at lw_m4 56 rfl) rfl
theorem q863 : (Jvm.Cond.methodLink "GrowingDoor$LawReader" (101 : Nat) ({ cls := "GrowingDoor$Known", name := "<init>", desc := "(I)V" } : Jvm.MethodName)) ∈ lw_all := lw_g (lw_at lw_m4 58 rfl) rfl
theorem q871 : (Jvm.Cond.methodLink "GrowingDoor$LawReader" (49 : Nat) ({ cls := "GrowingDoor$Reader", name := "takesSign", desc := "(C)Z" } : Jvm.MethodName)) ∈ lw_all := lw_g (lw_at lw_m4 66 rfl) rfl
theorem q875 : (Jvm.Cond.methodLink "GrowingDoor$LawReader" (41 : Nat) ({ cls := "GrowingDoor$Reader", name := "ends", desc := "()V" } : Jvm.MethodName)) ∈ lw_all := lw_g (lw_at lw_m4 70 rfl) rfl
theorem q2066 : (Jvm.Cond.castable "GrowingDoor$LawReader" "java/lang/Object") ∈ lw_tbl := lw_at lw_m9 61 rfl
theorem in_X12 : ∀ w ∈ wsX120, w ∈ lw_all := lw_in wsX120 [798, 800] (by decide +kernel) (by decide +kernel)
/-! GrowingDoor$Two -/
set_option maxRecDepth 100000
def RX13 : String := "GrowingDoor$Two"
def TX13 : u_T := fun k => match k with
  | 0 => ("GrowingDoor$Two", "sign", "C", true)
  | 1 => ("GrowingDoor$Two", "one", "LGrowingDoor$Term;", true)
  | _ => ("GrowingDoor$Two", "other", "LGrowingDoor$Term;", true)
def tyX13 : Nat → FieldType := fun k => match k with
  | 0 => .char
  | 1 => .object "GrowingDoor$Term"
  | _ => .object "GrowingDoor$Term"
abbrev wsX130 : List Cond := u_ws RX13 TX13 3
theorem nmX13 : ∀ a, a < 3 → ∀ b, b < 3 → a ≠ b → (TX13 a).2.1 ≠ (TX13 b).2.1 := by decide +kernel
theorem tyX13_ok : ∀ k, k < 3 → parseFieldDescriptor (TX13 k).2.2.1 = some (tyX13 k) := by decide +kernel
abbrev cX13_init : ByteArray := prog_20_method_1_code
def yX13_init : MethodName := ⟨RX13, "<init>", "(CLGrowingDoor$Term;LGrowingDoor$Term;)V"⟩
def dkwX13_init_0 : List UInt8 := [42, 183, 0, 1, 42, 27, 181, 0, 7, 42, 44, 181, 0, 13, 42, 45, 181, 0, 17, 177]
abbrev dktX13_init_0 : List UInt8 := dkwX13_init_0 ++ []
theorem dksX13_init_0 : cX13_init.data.toList.drop 0 = dktX13_init_0 := by decide +kernel
theorem dX13_init_0 : decode cX13_init 0 = .ok (.aload_n 0, 1) := dk_42 (dk_at dksX13_init_0 0 rfl rfl)
theorem dX13_init_1 : decode cX13_init 1 = .ok (.invokespecial 1, 3) := dk_183 0 1 (dk_at dksX13_init_0 1 rfl rfl)
theorem dX13_init_4 : decode cX13_init 4 = .ok (.aload_n 0, 1) := dk_42 (dk_at dksX13_init_0 4 rfl rfl)
theorem dX13_init_5 : decode cX13_init 5 = .ok (.iload_n 1, 1) := dk_27 (dk_at dksX13_init_0 5 rfl rfl)
theorem dX13_init_6 : decode cX13_init 6 = .ok (.putfield 7, 3) := dk_181 0 7 (dk_at dksX13_init_0 6 rfl rfl)
theorem dX13_init_9 : decode cX13_init 9 = .ok (.aload_n 0, 1) := dk_42 (dk_at dksX13_init_0 9 rfl rfl)
theorem dX13_init_10 : decode cX13_init 10 = .ok (.aload_n 2, 1) := dk_44 (dk_at dksX13_init_0 10 rfl rfl)
theorem dX13_init_11 : decode cX13_init 11 = .ok (.putfield 13, 3) := dk_181 0 13 (dk_at dksX13_init_0 11 rfl rfl)
theorem dX13_init_14 : decode cX13_init 14 = .ok (.aload_n 0, 1) := dk_42 (dk_at dksX13_init_0 14 rfl rfl)
theorem dX13_init_15 : decode cX13_init 15 = .ok (.aload_n 3, 1) := dk_45 (dk_at dksX13_init_0 15 rfl rfl)
theorem dX13_init_16 : decode cX13_init 16 = .ok (.putfield 17, 3) := dk_181 0 17 (dk_at dksX13_init_0 16 rfl rfl)
theorem dX13_init_19 : decode cX13_init 19 = .ok (.return_, 1) := dk_177 (dk_at dksX13_init_0 19 rfl rfl)
abbrev cX13_on : ByteArray := prog_20_method_2_code
def yX13_on : MethodName := ⟨RX13, "on", "(LGrowingDoor$Sight;)I"⟩
def dkwX13_on_4 : List UInt8 := [29, 154, 0, 7, 3, 167, 0, 6, 28, 29, 112, 172, 28, 29, 184, 0, 26, 172, 28, 29, 184, 0, 32, 172]
abbrev dktX13_on_4 : List UInt8 := dkwX13_on_4 ++ []
def dkwX13_on_3 : List UInt8 := [28, 29, 96, 172, 28, 29, 100, 172, 28, 29, 104, 172, 29, 154, 0, 7, 3, 167, 0, 6, 28, 29, 108, 172]
abbrev dktX13_on_3 : List UInt8 := dkwX13_on_3 ++ dktX13_on_4
def dkwX13_on_2 : List UInt8 := [171, 0, 0, 0, 0, 100, 0, 0, 0, 6, 0, 0, 0, 37, 0, 0, 0, 82, 0, 0, 0, 42, 0, 0, 0, 66, 0, 0, 0, 43, 0, 0, 0, 58, 0, 0, 0, 45, 0, 0, 0, 62, 0, 0, 0, 47, 0, 0, 0, 70, 0, 0, 0, 91, 0, 0, 0, 94]
abbrev dktX13_on_2 : List UInt8 := dkwX13_on_2 ++ dktX13_on_3
def dkwX13_on_1 : List UInt8 := [180, 0, 7]
abbrev dktX13_on_1 : List UInt8 := dkwX13_on_1 ++ dktX13_on_2
def dkwX13_on_0 : List UInt8 := [42, 180, 0, 13, 43, 185, 0, 20, 2, 0, 61, 42, 180, 0, 17, 43, 185, 0, 20, 2, 0, 62, 42]
abbrev dktX13_on_0 : List UInt8 := dkwX13_on_0 ++ dktX13_on_1
theorem dksX13_on_0 : cX13_on.data.toList.drop 0 = dktX13_on_0 := by decide +kernel
theorem dksX13_on_1 : cX13_on.data.toList.drop 23 = dktX13_on_1 := dk_seg dksX13_on_0 23 rfl rfl
theorem dksX13_on_2 : cX13_on.data.toList.drop 26 = dktX13_on_2 := dk_seg dksX13_on_1 3 rfl rfl
theorem dksX13_on_3 : cX13_on.data.toList.drop 84 = dktX13_on_3 := dk_seg dksX13_on_2 58 rfl rfl
theorem dksX13_on_4 : cX13_on.data.toList.drop 108 = dktX13_on_4 := dk_seg dksX13_on_3 24 rfl rfl
theorem dX13_on_0 : decode cX13_on 0 = .ok (.aload_n 0, 1) := dk_42 (dk_at dksX13_on_0 0 rfl rfl)
theorem dX13_on_1 : decode cX13_on 1 = .ok (.getfield 13, 3) := dk_180 0 13 (dk_at dksX13_on_0 1 rfl rfl)
theorem dX13_on_4 : decode cX13_on 4 = .ok (.aload_n 1, 1) := dk_43 (dk_at dksX13_on_0 4 rfl rfl)
theorem dX13_on_5 : decode cX13_on 5 = .ok (.invokeinterface 20 2, 5) := by decide +kernel
theorem dX13_on_10 : decode cX13_on 10 = .ok (.istore_n 2, 1) := dk_61 (dk_at dksX13_on_0 10 rfl rfl)
theorem dX13_on_11 : decode cX13_on 11 = .ok (.aload_n 0, 1) := dk_42 (dk_at dksX13_on_0 11 rfl rfl)
theorem dX13_on_12 : decode cX13_on 12 = .ok (.getfield 17, 3) := dk_180 0 17 (dk_at dksX13_on_0 12 rfl rfl)
theorem dX13_on_15 : decode cX13_on 15 = .ok (.aload_n 1, 1) := dk_43 (dk_at dksX13_on_0 15 rfl rfl)
theorem dX13_on_16 : decode cX13_on 16 = .ok (.invokeinterface 20 2, 5) := by decide +kernel
theorem dX13_on_21 : decode cX13_on 21 = .ok (.istore_n 3, 1) := dk_62 (dk_at dksX13_on_0 21 rfl rfl)
theorem dX13_on_22 : decode cX13_on 22 = .ok (.aload_n 0, 1) := dk_42 (dk_at dksX13_on_0 22 rfl rfl)
theorem dX13_on_23 : decode cX13_on 23 = .ok (.getfield 7, 3) := dk_180 0 7 (dk_at dksX13_on_1 0 rfl rfl)
theorem dX13_on_26 : decode cX13_on 26 = .ok (.lookupswitch 100 #[(37, 82), (42, 66), (43, 58), (45, 62), (47, 70), (91, 94)], 58) := by decide +kernel
theorem dX13_on_84 : decode cX13_on 84 = .ok (.iload_n 2, 1) := dk_28 (dk_at dksX13_on_3 0 rfl rfl)
theorem dX13_on_85 : decode cX13_on 85 = .ok (.iload_n 3, 1) := dk_29 (dk_at dksX13_on_3 1 rfl rfl)
theorem dX13_on_86 : decode cX13_on 86 = .ok (.iadd, 1) := dk_96 (dk_at dksX13_on_3 2 rfl rfl)
theorem dX13_on_87 : decode cX13_on 87 = .ok (.ireturn, 1) := dk_172 (dk_at dksX13_on_3 3 rfl rfl)
theorem dX13_on_88 : decode cX13_on 88 = .ok (.iload_n 2, 1) := dk_28 (dk_at dksX13_on_3 4 rfl rfl)
theorem dX13_on_89 : decode cX13_on 89 = .ok (.iload_n 3, 1) := dk_29 (dk_at dksX13_on_3 5 rfl rfl)
theorem dX13_on_90 : decode cX13_on 90 = .ok (.isub, 1) := dk_100 (dk_at dksX13_on_3 6 rfl rfl)
theorem dX13_on_91 : decode cX13_on 91 = .ok (.ireturn, 1) := dk_172 (dk_at dksX13_on_3 7 rfl rfl)
theorem dX13_on_92 : decode cX13_on 92 = .ok (.iload_n 2, 1) := dk_28 (dk_at dksX13_on_3 8 rfl rfl)
theorem dX13_on_93 : decode cX13_on 93 = .ok (.iload_n 3, 1) := dk_29 (dk_at dksX13_on_3 9 rfl rfl)
theorem dX13_on_94 : decode cX13_on 94 = .ok (.imul, 1) := dk_104 (dk_at dksX13_on_3 10 rfl rfl)
theorem dX13_on_95 : decode cX13_on 95 = .ok (.ireturn, 1) := dk_172 (dk_at dksX13_on_3 11 rfl rfl)
theorem dX13_on_96 : decode cX13_on 96 = .ok (.iload_n 3, 1) := dk_29 (dk_at dksX13_on_3 12 rfl rfl)
theorem dX13_on_97 : decode cX13_on 97 = .ok (.ifCond .ne 7, 3) := dk_154 0 7 (dk_at dksX13_on_3 13 rfl rfl)
theorem dX13_on_100 : decode cX13_on 100 = .ok (.iconst 0, 1) := dk_3 (dk_at dksX13_on_3 16 rfl rfl)
theorem dX13_on_101 : decode cX13_on 101 = .ok (.goto 6, 3) := dk_167 0 6 (dk_at dksX13_on_3 17 rfl rfl)
theorem dX13_on_104 : decode cX13_on 104 = .ok (.iload_n 2, 1) := dk_28 (dk_at dksX13_on_3 20 rfl rfl)
theorem dX13_on_105 : decode cX13_on 105 = .ok (.iload_n 3, 1) := dk_29 (dk_at dksX13_on_3 21 rfl rfl)
theorem dX13_on_106 : decode cX13_on 106 = .ok (.idiv, 1) := dk_108 (dk_at dksX13_on_3 22 rfl rfl)
theorem dX13_on_107 : decode cX13_on 107 = .ok (.ireturn, 1) := dk_172 (dk_at dksX13_on_3 23 rfl rfl)
theorem dX13_on_108 : decode cX13_on 108 = .ok (.iload_n 3, 1) := dk_29 (dk_at dksX13_on_4 0 rfl rfl)
theorem dX13_on_109 : decode cX13_on 109 = .ok (.ifCond .ne 7, 3) := dk_154 0 7 (dk_at dksX13_on_4 1 rfl rfl)
theorem dX13_on_112 : decode cX13_on 112 = .ok (.iconst 0, 1) := dk_3 (dk_at dksX13_on_4 4 rfl rfl)
theorem dX13_on_113 : decode cX13_on 113 = .ok (.goto 6, 3) := dk_167 0 6 (dk_at dksX13_on_4 5 rfl rfl)
theorem dX13_on_116 : decode cX13_on 116 = .ok (.iload_n 2, 1) := dk_28 (dk_at dksX13_on_4 8 rfl rfl)
theorem dX13_on_117 : decode cX13_on 117 = .ok (.iload_n 3, 1) := dk_29 (dk_at dksX13_on_4 9 rfl rfl)
theorem dX13_on_118 : decode cX13_on 118 = .ok (.irem, 1) := dk_112 (dk_at dksX13_on_4 10 rfl rfl)
theorem dX13_on_119 : decode cX13_on 119 = .ok (.ireturn, 1) := dk_172 (dk_at dksX13_on_4 11 rfl rfl)
theorem dX13_on_120 : decode cX13_on 120 = .ok (.iload_n 2, 1) := dk_28 (dk_at dksX13_on_4 12 rfl rfl)
theorem dX13_on_121 : decode cX13_on 121 = .ok (.iload_n 3, 1) := dk_29 (dk_at dksX13_on_4 13 rfl rfl)
theorem dX13_on_122 : decode cX13_on 122 = .ok (.invokestatic 26, 3) := dk_184 0 26 (dk_at dksX13_on_4 14 rfl rfl)
theorem dX13_on_125 : decode cX13_on 125 = .ok (.ireturn, 1) := dk_172 (dk_at dksX13_on_4 17 rfl rfl)
theorem dX13_on_126 : decode cX13_on 126 = .ok (.iload_n 2, 1) := dk_28 (dk_at dksX13_on_4 18 rfl rfl)
theorem dX13_on_127 : decode cX13_on 127 = .ok (.iload_n 3, 1) := dk_29 (dk_at dksX13_on_4 19 rfl rfl)
theorem dX13_on_128 : decode cX13_on 128 = .ok (.invokestatic 32, 3) := dk_184 0 32 (dk_at dksX13_on_4 20 rfl rfl)
theorem dX13_on_131 : decode cX13_on 131 = .ok (.ireturn, 1) := dk_172 (dk_at dksX13_on_4 23 rfl rfl)
theorem q108 : (Jvm.Cond.initialized "GrowingDoor$Two") ∈ lw_all := lw_g (lw_at lw_m1 23 rfl) rfl
theorem q833 : (Jvm.Cond.instantiable "GrowingDoor$Two" (3 : Nat)) ∈ lw_all := lw_g (lw_at lw_m4 28 rfl) rfl
theorem q835 : (Jvm.Cond.instanceMethod ({ cls := "GrowingDoor$Two", name := "<init>", desc := "(CLGrowingDoor$Term;LGrowingDoor$Term;)V" } : Jvm.MethodName)) ∈ lw_all := lw_g (lw_at lw_m4 30 rfl) rfl
theorem q836 : (Jvm.Cond.code ({ cls := "GrowingDoor$Two", name := "<init>", desc := "(CLGrowingDoor$Term;LGrowingDoor$Term;)V" } : Jvm.MethodName) prog_20_method_1_code (4 : Nat) (Option.none : Option Jvm.ClassFile.FieldType)) ∈ lw_all := lw_g (lw_at lw_m4 31 rfl) rfl
theorem q837 : (Jvm.Cond.methodLink "GrowingDoor$Two" (1 : Nat) ({ cls := "java/lang/Object", name := "<init>", desc := "()V" } : Jvm.MethodName)) ∈ lw_all := lw_g (lw_at lw_m4 32 rfl) rfl
theorem q838 : (Jvm.Cond.fieldLink "GrowingDoor$Two" (7 : Nat) "GrowingDoor$Two" "sign" "C") ∈ lw_all := lw_g (lw_at lw_m4 33 rfl) rfl
theorem q839 : (Jvm.Cond.fieldLink "GrowingDoor$Two" (13 : Nat) "GrowingDoor$Two" "one" "LGrowingDoor$Term;") ∈ lw_all := lw_g (lw_at lw_m4 34 rfl) rfl
theorem q840 : (Jvm.Cond.fieldLink "GrowingDoor$Two" (17 : Nat) "GrowingDoor$Two" "other" "LGrowingDoor$Term;") ∈ lw_all := lw_g (lw_at lw_m4 35 rfl) rfl
theorem q841 : (Jvm.Cond.laysFinal "GrowingDoor$Two" "GrowingDoor$Two" "sign" "C") ∈ lw_all := lw_g (lw_at lw_m4 36 rfl) rfl
theorem q842 : (Jvm.Cond.soleField "GrowingDoor$Two" "sign") ∈ lw_all := lw_g (lw_at lw_m4 37 rfl) rfl
theorem q843 : (Jvm.Cond.laysFinal "GrowingDoor$Two" "GrowingDoor$Two" "one" "LGrowingDoor$Term;") ∈ lw_all := lw_g (lw_at lw_m4 38 rfl) rfl
theorem q844 : (Jvm.Cond.soleField "GrowingDoor$Two" "one") ∈ lw_all := lw_g (lw_at lw_m4 39 rfl) rfl
theorem q845 : (Jvm.Cond.laysFinal "GrowingDoor$Two" "GrowingDoor$Two" "other" "LGrowingDoor$Term;") ∈ lw_all := lw_g (lw_at lw_m4 40 rfl) rfl
theorem q846 : (Jvm.Cond.soleField "GrowingDoor$Two" "other") ∈ lw_all := lw_g (lw_at lw_m4 41 rfl) rfl
theorem q847 : (Jvm.Cond.superclass "GrowingDoor$Two" "java/lang/Object") ∈ lw_all := lw_g (lw_at lw_m4 42 rfl) rfl
theorem q1098 : (Jvm.Cond.castable "GrowingDoor$Two" "GrowingDoor$Term") ∈ lw_tbl := lw_at lw_m5 53 rfl
theorem q1099 : (Jvm.Cond.selects "GrowingDoor$Two" ({ cls := "GrowingDoor$Term", name := "on", desc := "(LGrowingDoor$Sight;)I" } : Jvm.MethodName) ({ cls := "GrowingDoor$Two", name := "on", desc := "(LGrowingDoor$Sight;)I" } : Jvm.MethodName)) ∈ lw_all := lw_g (lw_at lw_m5 54 rfl) rfl
theorem q1100 : (Jvm.Cond.unhidden "GrowingDoor$Two" "on" "(LGrowingDoor$Sight;)I") ∈ lw_tbl := lw_at lw_m5 55 rfl
theorem q1101 : (Jvm.Cond.instanceMethod ({ cls := "GrowingDoor$Two", name := "on", desc := "(LGrowingDoor$Sight;)I" } : Jvm.MethodName)) ∈ lw_all := lw_g (lw_at lw_m5 56 rfl) rfl
theorem q1102 : (Jvm.Cond.publicMethod ({ cls := "GrowingDoor$Two", name := "on", desc := "(LGrowingDoor$Sight;)I" } : Jvm.MethodName)) ∈ lw_tbl := lw_at lw_m5 57 rfl
theorem q1103 : (Jvm.Cond.code ({ cls := "GrowingDoor$Two", name := "on", desc := "(LGrowingDoor$Sight;)I" } : Jvm.MethodName) prog_20_method_2_code (4 : Nat) (Option.some Jvm.ClassFile.FieldType.int)) ∈ lw_all := lw_g (lw_at lw_m5 58 rfl) rfl
theorem q1104 : (Jvm.Cond.interfaceEntry "GrowingDoor$Two" (20 : Nat)) ∈ lw_tbl := lw_at lw_m5 59 rfl
theorem q1105 : (Jvm.Cond.methodLink "GrowingDoor$Two" (20 : Nat) ({ cls := "GrowingDoor$Term", name := "on", desc := "(LGrowingDoor$Sight;)I" } : Jvm.MethodName)) ∈ lw_all := lw_g (lw_at lw_m5 60 rfl) rfl
theorem q1106 : (Jvm.Cond.methodLink "GrowingDoor$Two" (26 : Nat) ({ cls := "java/lang/Math", name := "min", desc := "(II)I" } : Jvm.MethodName)) ∈ lw_all := lw_g (lw_at lw_m5 61 rfl) rfl
theorem q1107 : (Jvm.Cond.methodLink "GrowingDoor$Two" (32 : Nat) ({ cls := "java/lang/Math", name := "max", desc := "(II)I" } : Jvm.MethodName)) ∈ lw_all := lw_g (lw_at lw_m5 62 rfl) rfl
theorem q2067 : (Jvm.Cond.castable "GrowingDoor$Two" "java/lang/Object") ∈ lw_tbl := lw_at lw_m9 62 rfl
theorem in_X13 : ∀ w ∈ wsX130, w ∈ lw_all := lw_in wsX130 [841, 843, 845] (by decide +kernel) (by decide +kernel)
/-! GrowingDoor$Amount -/
set_option maxRecDepth 100000
def RX14 : String := "GrowingDoor$Amount"
def TX14 : u_T := fun k => match k with
  | _ => ("GrowingDoor$Amount", "number", "I", true)
def tyX14 : Nat → FieldType := fun k => match k with
  | _ => .int
abbrev wsX140 : List Cond := u_ws RX14 TX14 1
theorem nmX14 : ∀ a, a < 1 → ∀ b, b < 1 → a ≠ b → (TX14 a).2.1 ≠ (TX14 b).2.1 := by decide +kernel
theorem tyX14_ok : ∀ k, k < 1 → parseFieldDescriptor (TX14 k).2.2.1 = some (tyX14 k) := by decide +kernel
abbrev cX14_init : ByteArray := prog_2_method_1_code
def yX14_init : MethodName := ⟨RX14, "<init>", "(I)V"⟩
def dkwX14_init_0 : List UInt8 := [42, 183, 0, 1, 42, 27, 181, 0, 7, 177]
abbrev dktX14_init_0 : List UInt8 := dkwX14_init_0 ++ []
theorem dksX14_init_0 : cX14_init.data.toList.drop 0 = dktX14_init_0 := by decide +kernel
theorem dX14_init_0 : decode cX14_init 0 = .ok (.aload_n 0, 1) := dk_42 (dk_at dksX14_init_0 0 rfl rfl)
theorem dX14_init_1 : decode cX14_init 1 = .ok (.invokespecial 1, 3) := dk_183 0 1 (dk_at dksX14_init_0 1 rfl rfl)
theorem dX14_init_4 : decode cX14_init 4 = .ok (.aload_n 0, 1) := dk_42 (dk_at dksX14_init_0 4 rfl rfl)
theorem dX14_init_5 : decode cX14_init 5 = .ok (.iload_n 1, 1) := dk_27 (dk_at dksX14_init_0 5 rfl rfl)
theorem dX14_init_6 : decode cX14_init 6 = .ok (.putfield 7, 3) := dk_181 0 7 (dk_at dksX14_init_0 6 rfl rfl)
theorem dX14_init_9 : decode cX14_init 9 = .ok (.return_, 1) := dk_177 (dk_at dksX14_init_0 9 rfl rfl)
abbrev cX14_on : ByteArray := prog_2_method_2_code
def yX14_on : MethodName := ⟨RX14, "on", "(LGrowingDoor$Sight;)I"⟩
theorem dX14_on_0 : decode cX14_on 0 = .ok (.aload_n 0, 1) := by decide +kernel
theorem dX14_on_1 : decode cX14_on 1 = .ok (.getfield 7, 3) := by decide +kernel
theorem dX14_on_4 : decode cX14_on 4 = .ok (.ireturn, 1) := by decide +kernel
theorem q109 : (Jvm.Cond.initialized "GrowingDoor$Amount") ∈ lw_all := lw_g (lw_at lw_m1 24 rfl) rfl
theorem q851 : (Jvm.Cond.instantiable "GrowingDoor$Amount" (1 : Nat)) ∈ lw_all := lw_g (lw_at lw_m4 46 rfl) rfl
theorem q854 : (Jvm.Cond.instanceMethod ({ cls := "GrowingDoor$Amount", name := "<init>", desc := "(I)V" } : Jvm.MethodName)) ∈ lw_all := lw_g (lw_at lw_m4 49 rfl) rfl
theorem q855 : (Jvm.Cond.code ({ cls := "GrowingDoor$Amount", name := "<init>", desc := "(I)V" } : Jvm.MethodName) prog_2_method_1_code (2 : Nat) (Option.none : Option Jvm.ClassFile.FieldType)) ∈ lw_all := lw_g (lw_at lw_m4 50 rfl) rfl
theorem q856 : (Jvm.Cond.methodLink "GrowingDoor$Amount" (1 : Nat) ({ cls := "java/lang/Object", name := "<init>", desc := "()V" } : Jvm.MethodName)) ∈ lw_all := lw_g (lw_at lw_m4 51 rfl) rfl
theorem q857 : (Jvm.Cond.fieldLink "GrowingDoor$Amount" (7 : Nat) "GrowingDoor$Amount" "number" "I") ∈ lw_all := lw_g (lw_at lw_m4 52 rfl) rfl
theorem q858 : (Jvm.Cond.laysFinal "GrowingDoor$Amount" "GrowingDoor$Amount" "number" "I") ∈ lw_all := lw_g (lw_at lw_m4 53 rfl) rfl
theorem q859 : (Jvm.Cond.soleField "GrowingDoor$Amount" "number") ∈ lw_all := lw_g (lw_at lw_m4 54 rfl) rfl
theorem q860 : (Jvm.Cond.superclass "GrowingDoor$Amount" "java/lang/Object") ∈ lw_all := lw_g (lw_at lw_m4 55 rfl) rfl
theorem q1082 : (Jvm.Cond.castable "GrowingDoor$Amount" "GrowingDoor$Term") ∈ lw_tbl := lw_at lw_m5 37 rfl
theorem q1083 : (Jvm.Cond.selects "GrowingDoor$Amount" ({ cls := "GrowingDoor$Term", name := "on", desc := "(LGrowingDoor$Sight;)I" } : Jvm.MethodName) ({ cls := "GrowingDoor$Amount", name := "on", desc := "(LGrowingDoor$Sight;)I" } : Jvm.MethodName)) ∈ lw_all := lw_g (lw_at lw_m5 38 rfl) rfl
theorem q1084 : (Jvm.Cond.unhidden "GrowingDoor$Amount" "on" "(LGrowingDoor$Sight;)I") ∈ lw_tbl := lw_at lw_m5 39 rfl
theorem q1085 : (Jvm.Cond.instanceMethod ({ cls := "GrowingDoor$Amount", name := "on", desc := "(LGrowingDoor$Sight;)I" } : Jvm.MethodName)) ∈ lw_all := lw_g (lw_at lw_m5 40 rfl) rfl
theorem q1086 : (Jvm.Cond.publicMethod ({ cls := "GrowingDoor$Amount", name := "on", desc := "(LGrowingDoor$Sight;)I" } : Jvm.MethodName)) ∈ lw_tbl := lw_at lw_m5 41 rfl
theorem q1087 : (Jvm.Cond.code ({ cls := "GrowingDoor$Amount", name := "on", desc := "(LGrowingDoor$Sight;)I" } : Jvm.MethodName) prog_2_method_2_code (2 : Nat) (Option.some Jvm.ClassFile.FieldType.int)) ∈ lw_all := lw_g (lw_at lw_m5 42 rfl) rfl
theorem q2068 : (Jvm.Cond.castable "GrowingDoor$Amount" "java/lang/Object") ∈ lw_tbl := lw_at lw_m9 63 rfl
theorem in_X14 : ∀ w ∈ wsX140, w ∈ lw_all := lw_in wsX140 [858] (by decide +kernel) (by decide +kernel)
/-! GrowingDoor$Known -/
set_option maxRecDepth 100000
def RX15 : String := "GrowingDoor$Known"
def TX15 : u_T := fun k => match k with
  | _ => ("GrowingDoor$Known", "which", "I", true)
def tyX15 : Nat → FieldType := fun k => match k with
  | _ => .int
abbrev wsX150 : List Cond := u_ws RX15 TX15 1
theorem nmX15 : ∀ a, a < 1 → ∀ b, b < 1 → a ≠ b → (TX15 a).2.1 ≠ (TX15 b).2.1 := by decide +kernel
theorem tyX15_ok : ∀ k, k < 1 → parseFieldDescriptor (TX15 k).2.2.1 = some (tyX15 k) := by decide +kernel
abbrev cX15_init : ByteArray := prog_4_method_1_code
def yX15_init : MethodName := ⟨RX15, "<init>", "(I)V"⟩
def dkwX15_init_0 : List UInt8 := [42, 183, 0, 1, 42, 27, 181, 0, 7, 177]
abbrev dktX15_init_0 : List UInt8 := dkwX15_init_0 ++ []
theorem dksX15_init_0 : cX15_init.data.toList.drop 0 = dktX15_init_0 := by decide +kernel
theorem dX15_init_0 : decode cX15_init 0 = .ok (.aload_n 0, 1) := dk_42 (dk_at dksX15_init_0 0 rfl rfl)
theorem dX15_init_1 : decode cX15_init 1 = .ok (.invokespecial 1, 3) := dk_183 0 1 (dk_at dksX15_init_0 1 rfl rfl)
theorem dX15_init_4 : decode cX15_init 4 = .ok (.aload_n 0, 1) := dk_42 (dk_at dksX15_init_0 4 rfl rfl)
theorem dX15_init_5 : decode cX15_init 5 = .ok (.iload_n 1, 1) := dk_27 (dk_at dksX15_init_0 5 rfl rfl)
theorem dX15_init_6 : decode cX15_init 6 = .ok (.putfield 7, 3) := dk_181 0 7 (dk_at dksX15_init_0 6 rfl rfl)
theorem dX15_init_9 : decode cX15_init 9 = .ok (.return_, 1) := dk_177 (dk_at dksX15_init_0 9 rfl rfl)
abbrev cX15_on : ByteArray := prog_4_method_2_code
def yX15_on : MethodName := ⟨RX15, "on", "(LGrowingDoor$Sight;)I"⟩
def dkwX15_on_0 : List UInt8 := [43, 42, 180, 0, 7, 182, 0, 13, 172]
abbrev dktX15_on_0 : List UInt8 := dkwX15_on_0 ++ []
theorem dksX15_on_0 : cX15_on.data.toList.drop 0 = dktX15_on_0 := by decide +kernel
theorem dX15_on_0 : decode cX15_on 0 = .ok (.aload_n 1, 1) := dk_43 (dk_at dksX15_on_0 0 rfl rfl)
theorem dX15_on_1 : decode cX15_on 1 = .ok (.aload_n 0, 1) := dk_42 (dk_at dksX15_on_0 1 rfl rfl)
theorem dX15_on_2 : decode cX15_on 2 = .ok (.getfield 7, 3) := dk_180 0 7 (dk_at dksX15_on_0 2 rfl rfl)
theorem dX15_on_5 : decode cX15_on 5 = .ok (.invokevirtual 13, 3) := dk_182 0 13 (dk_at dksX15_on_0 5 rfl rfl)
theorem dX15_on_8 : decode cX15_on 8 = .ok (.ireturn, 1) := dk_172 (dk_at dksX15_on_0 8 rfl rfl)
theorem q110 : (Jvm.Cond.initialized "GrowingDoor$Known") ∈ lw_all := lw_g (lw_at lw_m1 25 rfl) rfl
theorem q862 : (Jvm.Cond.instantiable "GrowingDoor$Known" (1 : Nat)) ∈ lw_all := lw_g (lw_at lw_m4 57 rfl) rfl
theorem q864 : (Jvm.Cond.instanceMethod ({ cls := "GrowingDoor$Known", name := "<init>", desc := "(I)V" } : Jvm.MethodName)) ∈ lw_all := lw_g (lw_at lw_m4 59 rfl) rfl
theorem q865 : (Jvm.Cond.code ({ cls := "GrowingDoor$Known", name := "<init>", desc := "(I)V" } : Jvm.MethodName) prog_4_method_1_code (2 : Nat) (Option.none : Option Jvm.ClassFile.FieldType)) ∈ lw_all := lw_g (lw_at lw_m4 60 rfl) rfl
theorem q866 : (Jvm.Cond.methodLink "GrowingDoor$Known" (1 : Nat) ({ cls := "java/lang/Object", name := "<init>", desc := "()V" } : Jvm.MethodName)) ∈ lw_all := lw_g (lw_at lw_m4 61 rfl) rfl
theorem q867 : (Jvm.Cond.fieldLink "GrowingDoor$Known" (7 : Nat) "GrowingDoor$Known" "which" "I") ∈ lw_all := lw_g (lw_at lw_m4 62 rfl) rfl
theorem q868 : (Jvm.Cond.laysFinal "GrowingDoor$Known" "GrowingDoor$Known" "which" "I") ∈ lw_all := lw_g (lw_at lw_m4 63 rfl) rfl
theorem q869 : (Jvm.Cond.soleField "GrowingDoor$Known" "which") ∈ lw_all := lw_g (lw_at lw_m4 64 rfl) rfl
theorem q870 : (Jvm.Cond.superclass "GrowingDoor$Known" "java/lang/Object") ∈ lw_all := lw_g (lw_at lw_m4 65 rfl) rfl
theorem q1088 : (Jvm.Cond.castable "GrowingDoor$Known" "GrowingDoor$Term") ∈ lw_tbl := lw_at lw_m5 43 rfl
theorem q1089 : (Jvm.Cond.selects "GrowingDoor$Known" ({ cls := "GrowingDoor$Term", name := "on", desc := "(LGrowingDoor$Sight;)I" } : Jvm.MethodName) ({ cls := "GrowingDoor$Known", name := "on", desc := "(LGrowingDoor$Sight;)I" } : Jvm.MethodName)) ∈ lw_all := lw_g (lw_at lw_m5 44 rfl) rfl
theorem q1090 : (Jvm.Cond.unhidden "GrowingDoor$Known" "on" "(LGrowingDoor$Sight;)I") ∈ lw_tbl := lw_at lw_m5 45 rfl
theorem q1091 : (Jvm.Cond.instanceMethod ({ cls := "GrowingDoor$Known", name := "on", desc := "(LGrowingDoor$Sight;)I" } : Jvm.MethodName)) ∈ lw_all := lw_g (lw_at lw_m5 46 rfl) rfl
theorem q1092 : (Jvm.Cond.publicMethod ({ cls := "GrowingDoor$Known", name := "on", desc := "(LGrowingDoor$Sight;)I" } : Jvm.MethodName)) ∈ lw_tbl := lw_at lw_m5 47 rfl
theorem q1093 : (Jvm.Cond.code ({ cls := "GrowingDoor$Known", name := "on", desc := "(LGrowingDoor$Sight;)I" } : Jvm.MethodName) prog_4_method_2_code (2 : Nat) (Option.some Jvm.ClassFile.FieldType.int)) ∈ lw_all := lw_g (lw_at lw_m5 48 rfl) rfl
theorem q1094 : (Jvm.Cond.methodLink "GrowingDoor$Known" (13 : Nat) ({ cls := "GrowingDoor$Sight", name := "known", desc := "(I)I" } : Jvm.MethodName)) ∈ lw_all := lw_g (lw_at lw_m5 49 rfl) rfl
theorem q2069 : (Jvm.Cond.castable "GrowingDoor$Known" "java/lang/Object") ∈ lw_tbl := lw_at lw_m9 64 rfl
theorem in_X15 : ∀ w ∈ wsX150, w ∈ lw_all := lw_in wsX150 [868] (by decide +kernel) (by decide +kernel)
/-! GrowingDoor$WorkReader -/
set_option maxRecDepth 100000
def RX16 : String := "GrowingDoor$WorkReader"
def TX16 : u_T := fun k => match k with
  | 0 => ("GrowingDoor$WorkReader", "words", "[Ljava/lang/String;", true)
  | 1 => ("GrowingDoor$WorkReader", "in", "LGrowingDoor$Reader;", true)
  | _ => ("GrowingDoor$WorkReader", "school", "LGrowingDoor$School;", true)
def tyX16 : Nat → FieldType := fun k => match k with
  | 0 => .array (.object "java/lang/String")
  | 1 => .object "GrowingDoor$Reader"
  | _ => .object "GrowingDoor$School"
abbrev wsX160 : List Cond := u_ws RX16 TX16 3
theorem nmX16 : ∀ a, a < 3 → ∀ b, b < 3 → a ≠ b → (TX16 a).2.1 ≠ (TX16 b).2.1 := by decide +kernel
theorem tyX16_ok : ∀ k, k < 3 → parseFieldDescriptor (TX16 k).2.2.1 = some (tyX16 k) := by decide +kernel
abbrev cX16_init : ByteArray := prog_21_method_1_code
def yX16_init : MethodName := ⟨RX16, "<init>", "(LGrowingDoor$Reader;LGrowingDoor$School;)V"⟩
def dkwX16_init_2 : List UInt8 := [16, 7, 18, 25, 83, 181, 0, 27, 42, 43, 181, 0, 33, 42, 44, 181, 0, 37, 177]
abbrev dktX16_init_2 : List UInt8 := dkwX16_init_2 ++ []
def dkwX16_init_1 : List UInt8 := [83, 89, 6, 18, 17, 83, 89, 7, 18, 19, 83, 89, 8, 18, 21, 83, 89, 16, 6, 18, 23, 83, 89]
abbrev dktX16_init_1 : List UInt8 := dkwX16_init_1 ++ dktX16_init_2
def dkwX16_init_0 : List UInt8 := [42, 183, 0, 3, 42, 16, 8, 189, 0, 9, 89, 3, 18, 11, 83, 89, 4, 18, 13, 83, 89, 5, 18, 15]
abbrev dktX16_init_0 : List UInt8 := dkwX16_init_0 ++ dktX16_init_1
theorem dksX16_init_0 : cX16_init.data.toList.drop 0 = dktX16_init_0 := by decide +kernel
theorem dksX16_init_1 : cX16_init.data.toList.drop 24 = dktX16_init_1 := dk_seg dksX16_init_0 24 rfl rfl
theorem dksX16_init_2 : cX16_init.data.toList.drop 47 = dktX16_init_2 := dk_seg dksX16_init_1 23 rfl rfl
theorem dX16_init_0 : decode cX16_init 0 = .ok (.aload_n 0, 1) := dk_42 (dk_at dksX16_init_0 0 rfl rfl)
theorem dX16_init_1 : decode cX16_init 1 = .ok (.invokespecial 3, 3) := dk_183 0 3 (dk_at dksX16_init_0 1 rfl rfl)
theorem dX16_init_4 : decode cX16_init 4 = .ok (.aload_n 0, 1) := dk_42 (dk_at dksX16_init_0 4 rfl rfl)
theorem dX16_init_5 : decode cX16_init 5 = .ok (.bipush 8, 2) := dk_16 8 (dk_at dksX16_init_0 5 rfl rfl)
theorem dX16_init_7 : decode cX16_init 7 = .ok (.anewarray 9, 3) := dk_189 0 9 (dk_at dksX16_init_0 7 rfl rfl)
theorem dX16_init_10 : decode cX16_init 10 = .ok (.dup, 1) := dk_89 (dk_at dksX16_init_0 10 rfl rfl)
theorem dX16_init_11 : decode cX16_init 11 = .ok (.iconst 0, 1) := dk_3 (dk_at dksX16_init_0 11 rfl rfl)
theorem dX16_init_12 : decode cX16_init 12 = .ok (.ldc 11, 2) := dk_18 11 (dk_at dksX16_init_0 12 rfl rfl)
theorem dX16_init_14 : decode cX16_init 14 = .ok (.aastore, 1) := dk_83 (dk_at dksX16_init_0 14 rfl rfl)
theorem dX16_init_15 : decode cX16_init 15 = .ok (.dup, 1) := dk_89 (dk_at dksX16_init_0 15 rfl rfl)
theorem dX16_init_16 : decode cX16_init 16 = .ok (.iconst 1, 1) := dk_4 (dk_at dksX16_init_0 16 rfl rfl)
theorem dX16_init_17 : decode cX16_init 17 = .ok (.ldc 13, 2) := dk_18 13 (dk_at dksX16_init_0 17 rfl rfl)
theorem dX16_init_19 : decode cX16_init 19 = .ok (.aastore, 1) := dk_83 (dk_at dksX16_init_0 19 rfl rfl)
theorem dX16_init_20 : decode cX16_init 20 = .ok (.dup, 1) := dk_89 (dk_at dksX16_init_0 20 rfl rfl)
theorem dX16_init_21 : decode cX16_init 21 = .ok (.iconst 2, 1) := dk_5 (dk_at dksX16_init_0 21 rfl rfl)
theorem dX16_init_22 : decode cX16_init 22 = .ok (.ldc 15, 2) := dk_18 15 (dk_at dksX16_init_0 22 rfl rfl)
theorem dX16_init_24 : decode cX16_init 24 = .ok (.aastore, 1) := dk_83 (dk_at dksX16_init_1 0 rfl rfl)
theorem dX16_init_25 : decode cX16_init 25 = .ok (.dup, 1) := dk_89 (dk_at dksX16_init_1 1 rfl rfl)
theorem dX16_init_26 : decode cX16_init 26 = .ok (.iconst 3, 1) := dk_6 (dk_at dksX16_init_1 2 rfl rfl)
theorem dX16_init_27 : decode cX16_init 27 = .ok (.ldc 17, 2) := dk_18 17 (dk_at dksX16_init_1 3 rfl rfl)
theorem dX16_init_29 : decode cX16_init 29 = .ok (.aastore, 1) := dk_83 (dk_at dksX16_init_1 5 rfl rfl)
theorem dX16_init_30 : decode cX16_init 30 = .ok (.dup, 1) := dk_89 (dk_at dksX16_init_1 6 rfl rfl)
theorem dX16_init_31 : decode cX16_init 31 = .ok (.iconst 4, 1) := dk_7 (dk_at dksX16_init_1 7 rfl rfl)
theorem dX16_init_32 : decode cX16_init 32 = .ok (.ldc 19, 2) := dk_18 19 (dk_at dksX16_init_1 8 rfl rfl)
theorem dX16_init_34 : decode cX16_init 34 = .ok (.aastore, 1) := dk_83 (dk_at dksX16_init_1 10 rfl rfl)
theorem dX16_init_35 : decode cX16_init 35 = .ok (.dup, 1) := dk_89 (dk_at dksX16_init_1 11 rfl rfl)
theorem dX16_init_36 : decode cX16_init 36 = .ok (.iconst 5, 1) := dk_8 (dk_at dksX16_init_1 12 rfl rfl)
theorem dX16_init_37 : decode cX16_init 37 = .ok (.ldc 21, 2) := dk_18 21 (dk_at dksX16_init_1 13 rfl rfl)
theorem dX16_init_39 : decode cX16_init 39 = .ok (.aastore, 1) := dk_83 (dk_at dksX16_init_1 15 rfl rfl)
theorem dX16_init_40 : decode cX16_init 40 = .ok (.dup, 1) := dk_89 (dk_at dksX16_init_1 16 rfl rfl)
theorem dX16_init_41 : decode cX16_init 41 = .ok (.bipush 6, 2) := dk_16 6 (dk_at dksX16_init_1 17 rfl rfl)
theorem dX16_init_43 : decode cX16_init 43 = .ok (.ldc 23, 2) := dk_18 23 (dk_at dksX16_init_1 19 rfl rfl)
theorem dX16_init_45 : decode cX16_init 45 = .ok (.aastore, 1) := dk_83 (dk_at dksX16_init_1 21 rfl rfl)
theorem dX16_init_46 : decode cX16_init 46 = .ok (.dup, 1) := dk_89 (dk_at dksX16_init_1 22 rfl rfl)
theorem dX16_init_47 : decode cX16_init 47 = .ok (.bipush 7, 2) := dk_16 7 (dk_at dksX16_init_2 0 rfl rfl)
theorem dX16_init_49 : decode cX16_init 49 = .ok (.ldc 25, 2) := dk_18 25 (dk_at dksX16_init_2 2 rfl rfl)
theorem dX16_init_51 : decode cX16_init 51 = .ok (.aastore, 1) := dk_83 (dk_at dksX16_init_2 4 rfl rfl)
theorem dX16_init_52 : decode cX16_init 52 = .ok (.putfield 27, 3) := dk_181 0 27 (dk_at dksX16_init_2 5 rfl rfl)
theorem dX16_init_55 : decode cX16_init 55 = .ok (.aload_n 0, 1) := dk_42 (dk_at dksX16_init_2 8 rfl rfl)
theorem dX16_init_56 : decode cX16_init 56 = .ok (.aload_n 1, 1) := dk_43 (dk_at dksX16_init_2 9 rfl rfl)
theorem dX16_init_57 : decode cX16_init 57 = .ok (.putfield 33, 3) := dk_181 0 33 (dk_at dksX16_init_2 10 rfl rfl)
theorem dX16_init_60 : decode cX16_init 60 = .ok (.aload_n 0, 1) := dk_42 (dk_at dksX16_init_2 13 rfl rfl)
theorem dX16_init_61 : decode cX16_init 61 = .ok (.aload_n 2, 1) := dk_44 (dk_at dksX16_init_2 14 rfl rfl)
theorem dX16_init_62 : decode cX16_init 62 = .ok (.putfield 37, 3) := dk_181 0 37 (dk_at dksX16_init_2 15 rfl rfl)
theorem dX16_init_65 : decode cX16_init 65 = .ok (.return_, 1) := dk_177 (dk_at dksX16_init_2 18 rfl rfl)
abbrev cX16_reads : ByteArray := prog_21_method_2_code
def yX16_reads : MethodName := ⟨RX16, "reads", "()LGrowingDoor$Row;"⟩
def dkwX16_reads_1 : List UInt8 := [182, 0, 52, 182, 0, 56, 167, 255, 237, 43, 176]
abbrev dktX16_reads_1 : List UInt8 := dkwX16_reads_1 ++ []
def dkwX16_reads_0 : List UInt8 := [187, 0, 41, 89, 4, 183, 0, 43, 76, 42, 180, 0, 33, 182, 0, 46, 2, 159, 0, 14, 43, 42]
abbrev dktX16_reads_0 : List UInt8 := dkwX16_reads_0 ++ dktX16_reads_1
theorem dksX16_reads_0 : cX16_reads.data.toList.drop 0 = dktX16_reads_0 := by decide +kernel
theorem dksX16_reads_1 : cX16_reads.data.toList.drop 22 = dktX16_reads_1 := dk_seg dksX16_reads_0 22 rfl rfl
theorem dX16_reads_0 : decode cX16_reads 0 = .ok (.new 41, 3) := dk_187 0 41 (dk_at dksX16_reads_0 0 rfl rfl)
theorem dX16_reads_3 : decode cX16_reads 3 = .ok (.dup, 1) := dk_89 (dk_at dksX16_reads_0 3 rfl rfl)
theorem dX16_reads_4 : decode cX16_reads 4 = .ok (.iconst 1, 1) := dk_4 (dk_at dksX16_reads_0 4 rfl rfl)
theorem dX16_reads_5 : decode cX16_reads 5 = .ok (.invokespecial 43, 3) := dk_183 0 43 (dk_at dksX16_reads_0 5 rfl rfl)
theorem dX16_reads_8 : decode cX16_reads 8 = .ok (.astore_n 1, 1) := dk_76 (dk_at dksX16_reads_0 8 rfl rfl)
theorem dX16_reads_9 : decode cX16_reads 9 = .ok (.aload_n 0, 1) := dk_42 (dk_at dksX16_reads_0 9 rfl rfl)
theorem dX16_reads_10 : decode cX16_reads 10 = .ok (.getfield 33, 3) := dk_180 0 33 (dk_at dksX16_reads_0 10 rfl rfl)
theorem dX16_reads_13 : decode cX16_reads 13 = .ok (.invokevirtual 46, 3) := dk_182 0 46 (dk_at dksX16_reads_0 13 rfl rfl)
theorem dX16_reads_16 : decode cX16_reads 16 = .ok (.iconst (-1), 1) := dk_2 (dk_at dksX16_reads_0 16 rfl rfl)
theorem dX16_reads_17 : decode cX16_reads 17 = .ok (.if_icmp .eq 14, 3) := dk_159 0 14 (dk_at dksX16_reads_0 17 rfl rfl)
theorem dX16_reads_20 : decode cX16_reads 20 = .ok (.aload_n 1, 1) := dk_43 (dk_at dksX16_reads_0 20 rfl rfl)
theorem dX16_reads_21 : decode cX16_reads 21 = .ok (.aload_n 0, 1) := dk_42 (dk_at dksX16_reads_0 21 rfl rfl)
theorem dX16_reads_22 : decode cX16_reads 22 = .ok (.invokevirtual 52, 3) := dk_182 0 52 (dk_at dksX16_reads_1 0 rfl rfl)
theorem dX16_reads_25 : decode cX16_reads 25 = .ok (.invokevirtual 56, 3) := dk_182 0 56 (dk_at dksX16_reads_1 3 rfl rfl)
theorem dX16_reads_28 : decode cX16_reads 28 = .ok (.goto (-19), 3) := dk_167 255 237 (dk_at dksX16_reads_1 6 rfl rfl)
theorem dX16_reads_31 : decode cX16_reads 31 = .ok (.aload_n 1, 1) := dk_43 (dk_at dksX16_reads_1 9 rfl rfl)
theorem dX16_reads_32 : decode cX16_reads 32 = .ok (.areturn, 1) := dk_176 (dk_at dksX16_reads_1 10 rfl rfl)
abbrev cX16_one : ByteArray := prog_21_method_4_code
def yX16_one : MethodName := ⟨RX16, "one", "()LGrowingDoor$Step;"⟩
def dkwX16_one_9 : List UInt8 := [182, 0, 105, 77, 42, 180, 0, 33, 16, 59, 182, 0, 108, 44, 176]
abbrev dktX16_one_9 : List UInt8 := dkwX16_one_9 ++ []
def dkwX16_one_8 : List UInt8 := [182, 0, 66, 183, 0, 96, 77, 167, 0, 19, 187, 0, 102, 89, 183, 0, 104, 77, 167, 0, 8, 42]
abbrev dktX16_one_8 : List UInt8 := dkwX16_one_8 ++ dktX16_one_9
def dkwX16_one_7 : List UInt8 := [42, 180, 0, 33, 3, 42, 180, 0, 37, 180, 0, 99, 4, 100, 182, 0, 66, 42, 180, 0, 33, 4, 16, 9]
abbrev dktX16_one_7 : List UInt8 := dkwX16_one_7 ++ dktX16_one_8
def dkwX16_one_6 : List UInt8 := [27, 3, 42, 180, 0, 33, 3, 16, 9, 182, 0, 66, 183, 0, 96, 77, 167, 0, 58, 187, 0, 94, 89, 27]
abbrev dktX16_one_6 : List UInt8 := dkwX16_one_6 ++ dktX16_one_7
def dkwX16_one_5 : List UInt8 := [182, 0, 90, 42, 180, 0, 33, 3, 16, 9, 182, 0, 66, 183, 0, 96, 77, 167, 0, 81, 187, 0, 94, 89]
abbrev dktX16_one_5 : List UInt8 := dkwX16_one_5 ++ dktX16_one_6
def dkwX16_one_4 : List UInt8 := [187, 0, 88, 89, 27, 42, 182, 0, 90, 183, 0, 93, 77, 167, 0, 107, 187, 0, 94, 89, 27, 42]
abbrev dktX16_one_4 : List UInt8 := dkwX16_one_4 ++ dktX16_one_5
def dkwX16_one_3 : List UInt8 := [170, 0, 0, 0, 0, 0, 0, 159, 0, 0, 0, 0, 0, 0, 0, 6, 0, 0, 0, 44, 0, 0, 0, 60, 0, 0, 0, 86, 0, 0, 0, 109, 0, 0, 0, 44, 0, 0, 0, 44, 0, 0, 0, 148]
abbrev dktX16_one_3 : List UInt8 := dkwX16_one_3 ++ dktX16_one_4
def dkwX16_one_2 : List UInt8 := [180, 0, 33, 182, 0, 85, 1, 77, 27]
abbrev dktX16_one_2 : List UInt8 := dkwX16_one_2 ++ dktX16_one_3
def dkwX16_one_1 : List UInt8 := [180, 0, 33, 182, 0, 76, 183, 0, 79, 191, 27, 16, 7, 160, 0, 10, 42, 180, 0, 33, 182, 0, 82, 42]
abbrev dktX16_one_1 : List UInt8 := dkwX16_one_1 ++ dktX16_one_2
def dkwX16_one_0 : List UInt8 := [42, 180, 0, 33, 42, 180, 0, 27, 182, 0, 70, 60, 27, 2, 160, 0, 19, 187, 0, 74, 89, 4, 42]
abbrev dktX16_one_0 : List UInt8 := dkwX16_one_0 ++ dktX16_one_1
theorem dksX16_one_0 : cX16_one.data.toList.drop 0 = dktX16_one_0 := by decide +kernel
theorem dksX16_one_1 : cX16_one.data.toList.drop 23 = dktX16_one_1 := dk_seg dksX16_one_0 23 rfl rfl
theorem dksX16_one_2 : cX16_one.data.toList.drop 47 = dktX16_one_2 := dk_seg dksX16_one_1 24 rfl rfl
theorem dksX16_one_3 : cX16_one.data.toList.drop 56 = dktX16_one_3 := dk_seg dksX16_one_2 9 rfl rfl
theorem dksX16_one_4 : cX16_one.data.toList.drop 100 = dktX16_one_4 := dk_seg dksX16_one_3 44 rfl rfl
theorem dksX16_one_5 : cX16_one.data.toList.drop 122 = dktX16_one_5 := dk_seg dksX16_one_4 22 rfl rfl
theorem dksX16_one_6 : cX16_one.data.toList.drop 146 = dktX16_one_6 := dk_seg dksX16_one_5 24 rfl rfl
theorem dksX16_one_7 : cX16_one.data.toList.drop 170 = dktX16_one_7 := dk_seg dksX16_one_6 24 rfl rfl
theorem dksX16_one_8 : cX16_one.data.toList.drop 194 = dktX16_one_8 := dk_seg dksX16_one_7 24 rfl rfl
theorem dksX16_one_9 : cX16_one.data.toList.drop 216 = dktX16_one_9 := dk_seg dksX16_one_8 22 rfl rfl
theorem dX16_one_0 : decode cX16_one 0 = .ok (.aload_n 0, 1) := dk_42 (dk_at dksX16_one_0 0 rfl rfl)
theorem dX16_one_1 : decode cX16_one 1 = .ok (.getfield 33, 3) := dk_180 0 33 (dk_at dksX16_one_0 1 rfl rfl)
theorem dX16_one_4 : decode cX16_one 4 = .ok (.aload_n 0, 1) := dk_42 (dk_at dksX16_one_0 4 rfl rfl)
theorem dX16_one_5 : decode cX16_one 5 = .ok (.getfield 27, 3) := dk_180 0 27 (dk_at dksX16_one_0 5 rfl rfl)
theorem dX16_one_8 : decode cX16_one 8 = .ok (.invokevirtual 70, 3) := dk_182 0 70 (dk_at dksX16_one_0 8 rfl rfl)
theorem dX16_one_11 : decode cX16_one 11 = .ok (.istore_n 1, 1) := dk_60 (dk_at dksX16_one_0 11 rfl rfl)
theorem dX16_one_12 : decode cX16_one 12 = .ok (.iload_n 1, 1) := dk_27 (dk_at dksX16_one_0 12 rfl rfl)
theorem dX16_one_13 : decode cX16_one 13 = .ok (.iconst (-1), 1) := dk_2 (dk_at dksX16_one_0 13 rfl rfl)
theorem dX16_one_14 : decode cX16_one 14 = .ok (.if_icmp .ne 19, 3) := dk_160 0 19 (dk_at dksX16_one_0 14 rfl rfl)
theorem dX16_one_17 : decode cX16_one 17 = .ok (.new 74, 3) := dk_187 0 74 (dk_at dksX16_one_0 17 rfl rfl)
theorem dX16_one_20 : decode cX16_one 20 = .ok (.dup, 1) := dk_89 (dk_at dksX16_one_0 20 rfl rfl)
theorem dX16_one_21 : decode cX16_one 21 = .ok (.iconst 1, 1) := dk_4 (dk_at dksX16_one_0 21 rfl rfl)
theorem dX16_one_22 : decode cX16_one 22 = .ok (.aload_n 0, 1) := dk_42 (dk_at dksX16_one_0 22 rfl rfl)
theorem dX16_one_23 : decode cX16_one 23 = .ok (.getfield 33, 3) := dk_180 0 33 (dk_at dksX16_one_1 0 rfl rfl)
theorem dX16_one_26 : decode cX16_one 26 = .ok (.invokevirtual 76, 3) := dk_182 0 76 (dk_at dksX16_one_1 3 rfl rfl)
theorem dX16_one_29 : decode cX16_one 29 = .ok (.invokespecial 79, 3) := dk_183 0 79 (dk_at dksX16_one_1 6 rfl rfl)
theorem dX16_one_32 : decode cX16_one 32 = .ok (.athrow, 1) := dk_191 (dk_at dksX16_one_1 9 rfl rfl)
theorem dX16_one_33 : decode cX16_one 33 = .ok (.iload_n 1, 1) := dk_27 (dk_at dksX16_one_1 10 rfl rfl)
theorem dX16_one_34 : decode cX16_one 34 = .ok (.bipush 7, 2) := dk_16 7 (dk_at dksX16_one_1 11 rfl rfl)
theorem dX16_one_36 : decode cX16_one 36 = .ok (.if_icmp .ne 10, 3) := dk_160 0 10 (dk_at dksX16_one_1 13 rfl rfl)
theorem dX16_one_39 : decode cX16_one 39 = .ok (.aload_n 0, 1) := dk_42 (dk_at dksX16_one_1 16 rfl rfl)
theorem dX16_one_40 : decode cX16_one 40 = .ok (.getfield 33, 3) := dk_180 0 33 (dk_at dksX16_one_1 17 rfl rfl)
theorem dX16_one_43 : decode cX16_one 43 = .ok (.invokevirtual 82, 3) := dk_182 0 82 (dk_at dksX16_one_1 20 rfl rfl)
theorem dX16_one_46 : decode cX16_one 46 = .ok (.aload_n 0, 1) := dk_42 (dk_at dksX16_one_1 23 rfl rfl)
theorem dX16_one_47 : decode cX16_one 47 = .ok (.getfield 33, 3) := dk_180 0 33 (dk_at dksX16_one_2 0 rfl rfl)
theorem dX16_one_50 : decode cX16_one 50 = .ok (.invokevirtual 85, 3) := dk_182 0 85 (dk_at dksX16_one_2 3 rfl rfl)
theorem dX16_one_53 : decode cX16_one 53 = .ok (.aconst_null, 1) := dk_1 (dk_at dksX16_one_2 6 rfl rfl)
theorem dX16_one_54 : decode cX16_one 54 = .ok (.astore_n 2, 1) := dk_77 (dk_at dksX16_one_2 7 rfl rfl)
theorem dX16_one_55 : decode cX16_one 55 = .ok (.iload_n 1, 1) := dk_27 (dk_at dksX16_one_2 8 rfl rfl)
theorem dX16_one_56 : decode cX16_one 56 = .ok (.tableswitch 159 0 6 #[44, 60, 86, 109, 44, 44, 148], 44) := by decide +kernel
theorem dX16_one_100 : decode cX16_one 100 = .ok (.new 88, 3) := dk_187 0 88 (dk_at dksX16_one_4 0 rfl rfl)
theorem dX16_one_103 : decode cX16_one 103 = .ok (.dup, 1) := dk_89 (dk_at dksX16_one_4 3 rfl rfl)
theorem dX16_one_104 : decode cX16_one 104 = .ok (.iload_n 1, 1) := dk_27 (dk_at dksX16_one_4 4 rfl rfl)
theorem dX16_one_105 : decode cX16_one 105 = .ok (.aload_n 0, 1) := dk_42 (dk_at dksX16_one_4 5 rfl rfl)
theorem dX16_one_106 : decode cX16_one 106 = .ok (.invokevirtual 90, 3) := dk_182 0 90 (dk_at dksX16_one_4 6 rfl rfl)
theorem dX16_one_109 : decode cX16_one 109 = .ok (.invokespecial 93, 3) := dk_183 0 93 (dk_at dksX16_one_4 9 rfl rfl)
theorem dX16_one_112 : decode cX16_one 112 = .ok (.astore_n 2, 1) := dk_77 (dk_at dksX16_one_4 12 rfl rfl)
theorem dX16_one_113 : decode cX16_one 113 = .ok (.goto 107, 3) := dk_167 0 107 (dk_at dksX16_one_4 13 rfl rfl)
theorem dX16_one_116 : decode cX16_one 116 = .ok (.new 94, 3) := dk_187 0 94 (dk_at dksX16_one_4 16 rfl rfl)
theorem dX16_one_119 : decode cX16_one 119 = .ok (.dup, 1) := dk_89 (dk_at dksX16_one_4 19 rfl rfl)
theorem dX16_one_120 : decode cX16_one 120 = .ok (.iload_n 1, 1) := dk_27 (dk_at dksX16_one_4 20 rfl rfl)
theorem dX16_one_121 : decode cX16_one 121 = .ok (.aload_n 0, 1) := dk_42 (dk_at dksX16_one_4 21 rfl rfl)
theorem dX16_one_122 : decode cX16_one 122 = .ok (.invokevirtual 90, 3) := dk_182 0 90 (dk_at dksX16_one_5 0 rfl rfl)
theorem dX16_one_125 : decode cX16_one 125 = .ok (.aload_n 0, 1) := dk_42 (dk_at dksX16_one_5 3 rfl rfl)
theorem dX16_one_126 : decode cX16_one 126 = .ok (.getfield 33, 3) := dk_180 0 33 (dk_at dksX16_one_5 4 rfl rfl)
theorem dX16_one_129 : decode cX16_one 129 = .ok (.iconst 0, 1) := dk_3 (dk_at dksX16_one_5 7 rfl rfl)
theorem dX16_one_130 : decode cX16_one 130 = .ok (.bipush 9, 2) := dk_16 9 (dk_at dksX16_one_5 8 rfl rfl)
theorem dX16_one_132 : decode cX16_one 132 = .ok (.invokevirtual 66, 3) := dk_182 0 66 (dk_at dksX16_one_5 10 rfl rfl)
theorem dX16_one_135 : decode cX16_one 135 = .ok (.invokespecial 96, 3) := dk_183 0 96 (dk_at dksX16_one_5 13 rfl rfl)
theorem dX16_one_138 : decode cX16_one 138 = .ok (.astore_n 2, 1) := dk_77 (dk_at dksX16_one_5 16 rfl rfl)
theorem dX16_one_139 : decode cX16_one 139 = .ok (.goto 81, 3) := dk_167 0 81 (dk_at dksX16_one_5 17 rfl rfl)
theorem dX16_one_142 : decode cX16_one 142 = .ok (.new 94, 3) := dk_187 0 94 (dk_at dksX16_one_5 20 rfl rfl)
theorem dX16_one_145 : decode cX16_one 145 = .ok (.dup, 1) := dk_89 (dk_at dksX16_one_5 23 rfl rfl)
theorem dX16_one_146 : decode cX16_one 146 = .ok (.iload_n 1, 1) := dk_27 (dk_at dksX16_one_6 0 rfl rfl)
theorem dX16_one_147 : decode cX16_one 147 = .ok (.iconst 0, 1) := dk_3 (dk_at dksX16_one_6 1 rfl rfl)
theorem dX16_one_148 : decode cX16_one 148 = .ok (.aload_n 0, 1) := dk_42 (dk_at dksX16_one_6 2 rfl rfl)
theorem dX16_one_149 : decode cX16_one 149 = .ok (.getfield 33, 3) := dk_180 0 33 (dk_at dksX16_one_6 3 rfl rfl)
theorem dX16_one_152 : decode cX16_one 152 = .ok (.iconst 0, 1) := dk_3 (dk_at dksX16_one_6 6 rfl rfl)
theorem dX16_one_153 : decode cX16_one 153 = .ok (.bipush 9, 2) := dk_16 9 (dk_at dksX16_one_6 7 rfl rfl)
theorem dX16_one_155 : decode cX16_one 155 = .ok (.invokevirtual 66, 3) := dk_182 0 66 (dk_at dksX16_one_6 9 rfl rfl)
theorem dX16_one_158 : decode cX16_one 158 = .ok (.invokespecial 96, 3) := dk_183 0 96 (dk_at dksX16_one_6 12 rfl rfl)
theorem dX16_one_161 : decode cX16_one 161 = .ok (.astore_n 2, 1) := dk_77 (dk_at dksX16_one_6 15 rfl rfl)
theorem dX16_one_162 : decode cX16_one 162 = .ok (.goto 58, 3) := dk_167 0 58 (dk_at dksX16_one_6 16 rfl rfl)
theorem dX16_one_165 : decode cX16_one 165 = .ok (.new 94, 3) := dk_187 0 94 (dk_at dksX16_one_6 19 rfl rfl)
theorem dX16_one_168 : decode cX16_one 168 = .ok (.dup, 1) := dk_89 (dk_at dksX16_one_6 22 rfl rfl)
theorem dX16_one_169 : decode cX16_one 169 = .ok (.iload_n 1, 1) := dk_27 (dk_at dksX16_one_6 23 rfl rfl)
theorem dX16_one_170 : decode cX16_one 170 = .ok (.aload_n 0, 1) := dk_42 (dk_at dksX16_one_7 0 rfl rfl)
theorem dX16_one_171 : decode cX16_one 171 = .ok (.getfield 33, 3) := dk_180 0 33 (dk_at dksX16_one_7 1 rfl rfl)
theorem dX16_one_174 : decode cX16_one 174 = .ok (.iconst 0, 1) := dk_3 (dk_at dksX16_one_7 4 rfl rfl)
theorem dX16_one_175 : decode cX16_one 175 = .ok (.aload_n 0, 1) := dk_42 (dk_at dksX16_one_7 5 rfl rfl)
theorem dX16_one_176 : decode cX16_one 176 = .ok (.getfield 37, 3) := dk_180 0 37 (dk_at dksX16_one_7 6 rfl rfl)
theorem dX16_one_179 : decode cX16_one 179 = .ok (.getfield 99, 3) := dk_180 0 99 (dk_at dksX16_one_7 9 rfl rfl)
theorem dX16_one_182 : decode cX16_one 182 = .ok (.iconst 1, 1) := dk_4 (dk_at dksX16_one_7 12 rfl rfl)
theorem dX16_one_183 : decode cX16_one 183 = .ok (.isub, 1) := dk_100 (dk_at dksX16_one_7 13 rfl rfl)
theorem dX16_one_184 : decode cX16_one 184 = .ok (.invokevirtual 66, 3) := dk_182 0 66 (dk_at dksX16_one_7 14 rfl rfl)
theorem dX16_one_187 : decode cX16_one 187 = .ok (.aload_n 0, 1) := dk_42 (dk_at dksX16_one_7 17 rfl rfl)
theorem dX16_one_188 : decode cX16_one 188 = .ok (.getfield 33, 3) := dk_180 0 33 (dk_at dksX16_one_7 18 rfl rfl)
theorem dX16_one_191 : decode cX16_one 191 = .ok (.iconst 1, 1) := dk_4 (dk_at dksX16_one_7 21 rfl rfl)
theorem dX16_one_192 : decode cX16_one 192 = .ok (.bipush 9, 2) := dk_16 9 (dk_at dksX16_one_7 22 rfl rfl)
theorem dX16_one_194 : decode cX16_one 194 = .ok (.invokevirtual 66, 3) := dk_182 0 66 (dk_at dksX16_one_8 0 rfl rfl)
theorem dX16_one_197 : decode cX16_one 197 = .ok (.invokespecial 96, 3) := dk_183 0 96 (dk_at dksX16_one_8 3 rfl rfl)
theorem dX16_one_200 : decode cX16_one 200 = .ok (.astore_n 2, 1) := dk_77 (dk_at dksX16_one_8 6 rfl rfl)
theorem dX16_one_201 : decode cX16_one 201 = .ok (.goto 19, 3) := dk_167 0 19 (dk_at dksX16_one_8 7 rfl rfl)
theorem dX16_one_204 : decode cX16_one 204 = .ok (.new 102, 3) := dk_187 0 102 (dk_at dksX16_one_8 10 rfl rfl)
theorem dX16_one_207 : decode cX16_one 207 = .ok (.dup, 1) := dk_89 (dk_at dksX16_one_8 13 rfl rfl)
theorem dX16_one_208 : decode cX16_one 208 = .ok (.invokespecial 104, 3) := dk_183 0 104 (dk_at dksX16_one_8 14 rfl rfl)
theorem dX16_one_211 : decode cX16_one 211 = .ok (.astore_n 2, 1) := dk_77 (dk_at dksX16_one_8 17 rfl rfl)
theorem dX16_one_212 : decode cX16_one 212 = .ok (.goto 8, 3) := dk_167 0 8 (dk_at dksX16_one_8 18 rfl rfl)
theorem dX16_one_215 : decode cX16_one 215 = .ok (.aload_n 0, 1) := dk_42 (dk_at dksX16_one_8 21 rfl rfl)
theorem dX16_one_216 : decode cX16_one 216 = .ok (.invokevirtual 105, 3) := dk_182 0 105 (dk_at dksX16_one_9 0 rfl rfl)
theorem dX16_one_219 : decode cX16_one 219 = .ok (.astore_n 2, 1) := dk_77 (dk_at dksX16_one_9 3 rfl rfl)
theorem dX16_one_220 : decode cX16_one 220 = .ok (.aload_n 0, 1) := dk_42 (dk_at dksX16_one_9 4 rfl rfl)
theorem dX16_one_221 : decode cX16_one 221 = .ok (.getfield 33, 3) := dk_180 0 33 (dk_at dksX16_one_9 5 rfl rfl)
theorem dX16_one_224 : decode cX16_one 224 = .ok (.bipush 59, 2) := dk_16 59 (dk_at dksX16_one_9 8 rfl rfl)
theorem dX16_one_226 : decode cX16_one 226 = .ok (.invokevirtual 108, 3) := dk_182 0 108 (dk_at dksX16_one_9 10 rfl rfl)
theorem dX16_one_229 : decode cX16_one 229 = .ok (.aload_n 2, 1) := dk_44 (dk_at dksX16_one_9 13 rfl rfl)
theorem dX16_one_230 : decode cX16_one 230 = .ok (.areturn, 1) := dk_176 (dk_at dksX16_one_9 14 rfl rfl)
abbrev cX16_boy : ByteArray := prog_21_method_3_code
def yX16_boy : MethodName := ⟨RX16, "boy", "()I"⟩
def dkwX16_boy_0 : List UInt8 := [42, 180, 0, 33, 3, 42, 180, 0, 37, 180, 0, 60, 4, 100, 182, 0, 66, 172]
abbrev dktX16_boy_0 : List UInt8 := dkwX16_boy_0 ++ []
theorem dksX16_boy_0 : cX16_boy.data.toList.drop 0 = dktX16_boy_0 := by decide +kernel
theorem dX16_boy_0 : decode cX16_boy 0 = .ok (.aload_n 0, 1) := dk_42 (dk_at dksX16_boy_0 0 rfl rfl)
theorem dX16_boy_1 : decode cX16_boy 1 = .ok (.getfield 33, 3) := dk_180 0 33 (dk_at dksX16_boy_0 1 rfl rfl)
theorem dX16_boy_4 : decode cX16_boy 4 = .ok (.iconst 0, 1) := dk_3 (dk_at dksX16_boy_0 4 rfl rfl)
theorem dX16_boy_5 : decode cX16_boy 5 = .ok (.aload_n 0, 1) := dk_42 (dk_at dksX16_boy_0 5 rfl rfl)
theorem dX16_boy_6 : decode cX16_boy 6 = .ok (.getfield 37, 3) := dk_180 0 37 (dk_at dksX16_boy_0 6 rfl rfl)
theorem dX16_boy_9 : decode cX16_boy 9 = .ok (.getfield 60, 3) := dk_180 0 60 (dk_at dksX16_boy_0 9 rfl rfl)
theorem dX16_boy_12 : decode cX16_boy 12 = .ok (.iconst 1, 1) := dk_4 (dk_at dksX16_boy_0 12 rfl rfl)
theorem dX16_boy_13 : decode cX16_boy 13 = .ok (.isub, 1) := dk_100 (dk_at dksX16_boy_0 13 rfl rfl)
theorem dX16_boy_14 : decode cX16_boy 14 = .ok (.invokevirtual 66, 3) := dk_182 0 66 (dk_at dksX16_boy_0 14 rfl rfl)
theorem dX16_boy_17 : decode cX16_boy 17 = .ok (.ireturn, 1) := dk_172 (dk_at dksX16_boy_0 17 rfl rfl)
abbrev cX16_again : ByteArray := prog_21_method_5_code
def yX16_again : MethodName := ⟨RX16, "again", "()LGrowingDoor$Row;"⟩
def dkwX16_again_2 : List UInt8 := [167, 255, 236, 42, 180, 0, 33, 182, 0, 116, 43, 176]
abbrev dktX16_again_2 : List UInt8 := dkwX16_again_2 ++ []
def dkwX16_again_1 : List UInt8 := [182, 0, 108, 42, 180, 0, 33, 16, 93, 182, 0, 112, 154, 0, 14, 43, 42, 182, 0, 52, 182, 0, 56]
abbrev dktX16_again_1 : List UInt8 := dkwX16_again_1 ++ dktX16_again_2
def dkwX16_again_0 : List UInt8 := [187, 0, 41, 89, 42, 180, 0, 33, 3, 16, 30, 182, 0, 66, 183, 0, 43, 76, 42, 180, 0, 33, 16, 91]
abbrev dktX16_again_0 : List UInt8 := dkwX16_again_0 ++ dktX16_again_1
theorem dksX16_again_0 : cX16_again.data.toList.drop 0 = dktX16_again_0 := by decide +kernel
theorem dksX16_again_1 : cX16_again.data.toList.drop 24 = dktX16_again_1 := dk_seg dksX16_again_0 24 rfl rfl
theorem dksX16_again_2 : cX16_again.data.toList.drop 47 = dktX16_again_2 := dk_seg dksX16_again_1 23 rfl rfl
theorem dX16_again_0 : decode cX16_again 0 = .ok (.new 41, 3) := dk_187 0 41 (dk_at dksX16_again_0 0 rfl rfl)
theorem dX16_again_3 : decode cX16_again 3 = .ok (.dup, 1) := dk_89 (dk_at dksX16_again_0 3 rfl rfl)
theorem dX16_again_4 : decode cX16_again 4 = .ok (.aload_n 0, 1) := dk_42 (dk_at dksX16_again_0 4 rfl rfl)
theorem dX16_again_5 : decode cX16_again 5 = .ok (.getfield 33, 3) := dk_180 0 33 (dk_at dksX16_again_0 5 rfl rfl)
theorem dX16_again_8 : decode cX16_again 8 = .ok (.iconst 0, 1) := dk_3 (dk_at dksX16_again_0 8 rfl rfl)
theorem dX16_again_9 : decode cX16_again 9 = .ok (.bipush 30, 2) := dk_16 30 (dk_at dksX16_again_0 9 rfl rfl)
theorem dX16_again_11 : decode cX16_again 11 = .ok (.invokevirtual 66, 3) := dk_182 0 66 (dk_at dksX16_again_0 11 rfl rfl)
theorem dX16_again_14 : decode cX16_again 14 = .ok (.invokespecial 43, 3) := dk_183 0 43 (dk_at dksX16_again_0 14 rfl rfl)
theorem dX16_again_17 : decode cX16_again 17 = .ok (.astore_n 1, 1) := dk_76 (dk_at dksX16_again_0 17 rfl rfl)
theorem dX16_again_18 : decode cX16_again 18 = .ok (.aload_n 0, 1) := dk_42 (dk_at dksX16_again_0 18 rfl rfl)
theorem dX16_again_19 : decode cX16_again 19 = .ok (.getfield 33, 3) := dk_180 0 33 (dk_at dksX16_again_0 19 rfl rfl)
theorem dX16_again_22 : decode cX16_again 22 = .ok (.bipush 91, 2) := dk_16 91 (dk_at dksX16_again_0 22 rfl rfl)
theorem dX16_again_24 : decode cX16_again 24 = .ok (.invokevirtual 108, 3) := dk_182 0 108 (dk_at dksX16_again_1 0 rfl rfl)
theorem dX16_again_27 : decode cX16_again 27 = .ok (.aload_n 0, 1) := dk_42 (dk_at dksX16_again_1 3 rfl rfl)
theorem dX16_again_28 : decode cX16_again 28 = .ok (.getfield 33, 3) := dk_180 0 33 (dk_at dksX16_again_1 4 rfl rfl)
theorem dX16_again_31 : decode cX16_again 31 = .ok (.bipush 93, 2) := dk_16 93 (dk_at dksX16_again_1 7 rfl rfl)
theorem dX16_again_33 : decode cX16_again 33 = .ok (.invokevirtual 112, 3) := dk_182 0 112 (dk_at dksX16_again_1 9 rfl rfl)
theorem dX16_again_36 : decode cX16_again 36 = .ok (.ifCond .ne 14, 3) := dk_154 0 14 (dk_at dksX16_again_1 12 rfl rfl)
theorem dX16_again_39 : decode cX16_again 39 = .ok (.aload_n 1, 1) := dk_43 (dk_at dksX16_again_1 15 rfl rfl)
theorem dX16_again_40 : decode cX16_again 40 = .ok (.aload_n 0, 1) := dk_42 (dk_at dksX16_again_1 16 rfl rfl)
theorem dX16_again_41 : decode cX16_again 41 = .ok (.invokevirtual 52, 3) := dk_182 0 52 (dk_at dksX16_again_1 17 rfl rfl)
theorem dX16_again_44 : decode cX16_again 44 = .ok (.invokevirtual 56, 3) := dk_182 0 56 (dk_at dksX16_again_1 20 rfl rfl)
theorem dX16_again_47 : decode cX16_again 47 = .ok (.goto (-20), 3) := dk_167 255 236 (dk_at dksX16_again_2 0 rfl rfl)
theorem dX16_again_50 : decode cX16_again 50 = .ok (.aload_n 0, 1) := dk_42 (dk_at dksX16_again_2 3 rfl rfl)
theorem dX16_again_51 : decode cX16_again 51 = .ok (.getfield 33, 3) := dk_180 0 33 (dk_at dksX16_again_2 4 rfl rfl)
theorem dX16_again_54 : decode cX16_again 54 = .ok (.invokevirtual 116, 3) := dk_182 0 116 (dk_at dksX16_again_2 7 rfl rfl)
theorem dX16_again_57 : decode cX16_again 57 = .ok (.aload_n 1, 1) := dk_43 (dk_at dksX16_again_2 10 rfl rfl)
theorem dX16_again_58 : decode cX16_again 58 = .ok (.areturn, 1) := dk_176 (dk_at dksX16_again_2 11 rfl rfl)
theorem q111 : (Jvm.Cond.initialized "GrowingDoor$WorkReader") ∈ lw_all := lw_g (lw_at lw_m1 26 rfl) rfl
theorem q232 : (Jvm.Cond.fieldLinkNest "GrowingDoor$WorkReader" (99 : Nat) "GrowingDoor$School" "boards" "I" "GrowingDoor") ∈ lw_tbl := lw_at lw_m1 147 rfl
theorem q234 : (Jvm.Cond.fieldLinkNest "GrowingDoor$WorkReader" (60 : Nat) "GrowingDoor$School" "boys" "I" "GrowingDoor") ∈ lw_tbl := lw_at lw_m1 149 rfl
theorem q887 : (Jvm.Cond.instantiable "GrowingDoor$WorkReader" (3 : Nat)) ∈ lw_all := lw_g (lw_at lw_m4 82 rfl) rfl
theorem q889 : (Jvm.Cond.instanceMethod ({ cls := "GrowingDoor$WorkReader", name := "<init>", desc := "(LGrowingDoor$Reader;LGrowingDoor$School;)V" } : Jvm.MethodName)) ∈ lw_all := lw_g (lw_at lw_m4 84 rfl) rfl
theorem q890 : (Jvm.Cond.code ({ cls := "GrowingDoor$WorkReader", name := "<init>", desc := "(LGrowingDoor$Reader;LGrowingDoor$School;)V" } : Jvm.MethodName) prog_21_method_1_code (3 : Nat) (Option.none : Option Jvm.ClassFile.FieldType)) ∈ lw_all := lw_g (lw_at lw_m4 85 rfl) rfl
theorem q891 : (Jvm.Cond.methodLink "GrowingDoor$WorkReader" (3 : Nat) ({ cls := "java/lang/Object", name := "<init>", desc := "()V" } : Jvm.MethodName)) ∈ lw_all := lw_g (lw_at lw_m4 86 rfl) rfl
theorem q892 : (Jvm.Cond.classLink "GrowingDoor$WorkReader" (9 : Nat) "java/lang/String") ∈ lw_all := lw_g (lw_at lw_m4 87 rfl) rfl
theorem q893 : (Jvm.Cond.stringRef "GrowingDoor$WorkReader" (11 : Nat) "notch") ∈ lw_tbl := lw_at lw_m4 88 rfl
theorem q894 : (Jvm.Cond.stringRef "GrowingDoor$WorkReader" (13 : Nat) "feed") ∈ lw_tbl := lw_at lw_m4 89 rfl
theorem q895 : (Jvm.Cond.stringRef "GrowingDoor$WorkReader" (15 : Nat) "oil") ∈ lw_tbl := lw_at lw_m4 90 rfl
theorem q896 : (Jvm.Cond.stringRef "GrowingDoor$WorkReader" (17 : Nat) "plane") ∈ lw_tbl := lw_at lw_m4 91 rfl
theorem q897 : (Jvm.Cond.stringRef "GrowingDoor$WorkReader" (19 : Nat) "leave") ∈ lw_tbl := lw_at lw_m4 92 rfl
theorem q898 : (Jvm.Cond.stringRef "GrowingDoor$WorkReader" (21 : Nat) "back") ∈ lw_tbl := lw_at lw_m4 93 rfl
theorem q899 : (Jvm.Cond.stringRef "GrowingDoor$WorkReader" (23 : Nat) "month") ∈ lw_tbl := lw_at lw_m4 94 rfl
theorem q900 : (Jvm.Cond.stringRef "GrowingDoor$WorkReader" (25 : Nat) "again") ∈ lw_tbl := lw_at lw_m4 95 rfl
theorem q901 : (Jvm.Cond.fieldLink "GrowingDoor$WorkReader" (27 : Nat) "GrowingDoor$WorkReader" "words" "[Ljava/lang/String;") ∈ lw_all := lw_g (lw_at lw_m4 96 rfl) rfl
theorem q902 : (Jvm.Cond.fieldLink "GrowingDoor$WorkReader" (33 : Nat) "GrowingDoor$WorkReader" "in" "LGrowingDoor$Reader;") ∈ lw_all := lw_g (lw_at lw_m4 97 rfl) rfl
theorem q903 : (Jvm.Cond.fieldLink "GrowingDoor$WorkReader" (37 : Nat) "GrowingDoor$WorkReader" "school" "LGrowingDoor$School;") ∈ lw_all := lw_g (lw_at lw_m4 98 rfl) rfl
theorem q904 : (Jvm.Cond.laysFinal "GrowingDoor$WorkReader" "GrowingDoor$WorkReader" "words" "[Ljava/lang/String;") ∈ lw_all := lw_g (lw_at lw_m4 99 rfl) rfl
theorem q905 : (Jvm.Cond.soleField "GrowingDoor$WorkReader" "words") ∈ lw_all := lw_g (lw_at lw_m4 100 rfl) rfl
theorem q906 : (Jvm.Cond.laysFinal "GrowingDoor$WorkReader" "GrowingDoor$WorkReader" "in" "LGrowingDoor$Reader;") ∈ lw_all := lw_g (lw_at lw_m4 101 rfl) rfl
theorem q907 : (Jvm.Cond.soleField "GrowingDoor$WorkReader" "in") ∈ lw_all := lw_g (lw_at lw_m4 102 rfl) rfl
theorem q908 : (Jvm.Cond.laysFinal "GrowingDoor$WorkReader" "GrowingDoor$WorkReader" "school" "LGrowingDoor$School;") ∈ lw_all := lw_g (lw_at lw_m4 103 rfl) rfl
theorem q909 : (Jvm.Cond.soleField "GrowingDoor$WorkReader" "school") ∈ lw_all := lw_g (lw_at lw_m4 104 rfl) rfl
theorem q910 : (Jvm.Cond.superclass "GrowingDoor$WorkReader" "java/lang/Object") ∈ lw_all := lw_g (lw_at lw_m4 105 rfl) rfl
theorem q912 : (Jvm.Cond.instanceMethod ({ cls := "GrowingDoor$WorkReader", name := "reads", desc := "()LGrowingDoor$Row;" } : Jvm.MethodName)) ∈ lw_all := lw_g (lw_at lw_m4 107 rfl) rfl
theorem q913 : (Jvm.Cond.selects "GrowingDoor$WorkReader" ({ cls := "GrowingDoor$WorkReader", name := "reads", desc := "()LGrowingDoor$Row;" } : Jvm.MethodName) ({ cls := "GrowingDoor$WorkReader", name := "reads", desc := "()LGrowingDoor$Row;" } : Jvm.MethodName)) ∈ lw_all := lw_g (lw_at lw_m4 108 rfl) rfl
theorem q914 : (Jvm.Cond.code ({ cls := "GrowingDoor$WorkReader", name := "reads", desc := "()LGrowingDoor$Row;" } : Jvm.MethodName) prog_21_method_2_code (2 : Nat) (Option.some (Jvm.ClassFile.FieldType.object "GrowingDoor$Row"))) ∈ lw_all := lw_g (lw_at lw_m4 109 rfl) rfl
theorem q915 : (Jvm.Cond.classLink "GrowingDoor$WorkReader" (41 : Nat) "GrowingDoor$Row") ∈ lw_all := lw_g (lw_at lw_m4 110 rfl) rfl
theorem q917 : (Jvm.Cond.methodLink "GrowingDoor$WorkReader" (43 : Nat) ({ cls := "GrowingDoor$Row", name := "<init>", desc := "(I)V" } : Jvm.MethodName)) ∈ lw_all := lw_g (lw_at lw_m4 112 rfl) rfl
theorem q936 : (Jvm.Cond.methodLink "GrowingDoor$WorkReader" (46 : Nat) ({ cls := "GrowingDoor$Reader", name := "now", desc := "()I" } : Jvm.MethodName)) ∈ lw_all := lw_g (lw_at lw_m4 131 rfl) rfl
theorem q937 : (Jvm.Cond.methodLink "GrowingDoor$WorkReader" (52 : Nat) ({ cls := "GrowingDoor$WorkReader", name := "one", desc := "()LGrowingDoor$Step;" } : Jvm.MethodName)) ∈ lw_all := lw_g (lw_at lw_m4 132 rfl) rfl
theorem q938 : (Jvm.Cond.privateMethod ({ cls := "GrowingDoor$WorkReader", name := "one", desc := "()LGrowingDoor$Step;" } : Jvm.MethodName)) ∈ lw_tbl := lw_at lw_m4 133 rfl
theorem q939 : (Jvm.Cond.instanceMethod ({ cls := "GrowingDoor$WorkReader", name := "one", desc := "()LGrowingDoor$Step;" } : Jvm.MethodName)) ∈ lw_all := lw_g (lw_at lw_m4 134 rfl) rfl
theorem q940 : (Jvm.Cond.code ({ cls := "GrowingDoor$WorkReader", name := "one", desc := "()LGrowingDoor$Step;" } : Jvm.MethodName) prog_21_method_4_code (3 : Nat) (Option.some (Jvm.ClassFile.FieldType.object "GrowingDoor$Step"))) ∈ lw_all := lw_g (lw_at lw_m4 135 rfl) rfl
theorem q941 : (Jvm.Cond.methodLink "GrowingDoor$WorkReader" (70 : Nat) ({ cls := "GrowingDoor$Reader", name := "which", desc := "([Ljava/lang/String;)I" } : Jvm.MethodName)) ∈ lw_all := lw_g (lw_at lw_m4 136 rfl) rfl
theorem q942 : (Jvm.Cond.classLink "GrowingDoor$WorkReader" (74 : Nat) "GrowingDoor$Wrong") ∈ lw_all := lw_g (lw_at lw_m4 137 rfl) rfl
theorem q943 : (Jvm.Cond.methodLink "GrowingDoor$WorkReader" (76 : Nat) ({ cls := "GrowingDoor$Reader", name := "place", desc := "()I" } : Jvm.MethodName)) ∈ lw_all := lw_g (lw_at lw_m4 138 rfl) rfl
theorem q944 : (Jvm.Cond.methodLink "GrowingDoor$WorkReader" (79 : Nat) ({ cls := "GrowingDoor$Wrong", name := "<init>", desc := "(II)V" } : Jvm.MethodName)) ∈ lw_all := lw_g (lw_at lw_m4 139 rfl) rfl
theorem q945 : (Jvm.Cond.methodLink "GrowingDoor$WorkReader" (82 : Nat) ({ cls := "GrowingDoor$Reader", name := "opens", desc := "()V" } : Jvm.MethodName)) ∈ lw_all := lw_g (lw_at lw_m4 140 rfl) rfl
theorem q946 : (Jvm.Cond.methodLink "GrowingDoor$WorkReader" (85 : Nat) ({ cls := "GrowingDoor$Reader", name := "skipsWord", desc := "()V" } : Jvm.MethodName)) ∈ lw_all := lw_g (lw_at lw_m4 141 rfl) rfl
theorem q947 : (Jvm.Cond.classLink "GrowingDoor$WorkReader" (88 : Nat) "GrowingDoor$One") ∈ lw_all := lw_g (lw_at lw_m4 142 rfl) rfl
theorem q949 : (Jvm.Cond.methodLink "GrowingDoor$WorkReader" (90 : Nat) ({ cls := "GrowingDoor$WorkReader", name := "boy", desc := "()I" } : Jvm.MethodName)) ∈ lw_all := lw_g (lw_at lw_m4 144 rfl) rfl
theorem q950 : (Jvm.Cond.privateMethod ({ cls := "GrowingDoor$WorkReader", name := "boy", desc := "()I" } : Jvm.MethodName)) ∈ lw_tbl := lw_at lw_m4 145 rfl
theorem q951 : (Jvm.Cond.instanceMethod ({ cls := "GrowingDoor$WorkReader", name := "boy", desc := "()I" } : Jvm.MethodName)) ∈ lw_all := lw_g (lw_at lw_m4 146 rfl) rfl
theorem q952 : (Jvm.Cond.code ({ cls := "GrowingDoor$WorkReader", name := "boy", desc := "()I" } : Jvm.MethodName) prog_21_method_3_code (1 : Nat) (Option.some Jvm.ClassFile.FieldType.int)) ∈ lw_all := lw_g (lw_at lw_m4 147 rfl) rfl
theorem q953 : (Jvm.Cond.methodLink "GrowingDoor$WorkReader" (66 : Nat) ({ cls := "GrowingDoor$Reader", name := "number", desc := "(II)I" } : Jvm.MethodName)) ∈ lw_all := lw_g (lw_at lw_m4 148 rfl) rfl
theorem q954 : (Jvm.Cond.methodLink "GrowingDoor$WorkReader" (93 : Nat) ({ cls := "GrowingDoor$One", name := "<init>", desc := "(II)V" } : Jvm.MethodName)) ∈ lw_all := lw_g (lw_at lw_m4 149 rfl) rfl
theorem q965 : (Jvm.Cond.classLink "GrowingDoor$WorkReader" (94 : Nat) "GrowingDoor$Pair") ∈ lw_all := lw_g (lw_at lw_m4 160 rfl) rfl
theorem q967 : (Jvm.Cond.methodLink "GrowingDoor$WorkReader" (96 : Nat) ({ cls := "GrowingDoor$Pair", name := "<init>", desc := "(III)V" } : Jvm.MethodName)) ∈ lw_all := lw_g (lw_at lw_m4 162 rfl) rfl
theorem q981 : (Jvm.Cond.classLink "GrowingDoor$WorkReader" (102 : Nat) "GrowingDoor$Month") ∈ lw_all := lw_g (lw_at lw_m4 176 rfl) rfl
theorem q983 : (Jvm.Cond.methodLinkNest "GrowingDoor$WorkReader" (104 : Nat) ({ cls := "GrowingDoor$Month", name := "<init>", desc := "()V" } : Jvm.MethodName) "GrowingDoor") ∈ lw_tbl := lw_at lw_m4 178 rfl
theorem q988 : (Jvm.Cond.methodLink "GrowingDoor$WorkReader" (105 : Nat) ({ cls := "GrowingDoor$WorkReader", name := "again", desc := "()LGrowingDoor$Row;" } : Jvm.MethodName)) ∈ lw_all := lw_g (lw_at lw_m4 183 rfl) rfl
theorem q989 : (Jvm.Cond.privateMethod ({ cls := "GrowingDoor$WorkReader", name := "again", desc := "()LGrowingDoor$Row;" } : Jvm.MethodName)) ∈ lw_tbl := lw_at lw_m4 184 rfl
theorem q990 : (Jvm.Cond.instanceMethod ({ cls := "GrowingDoor$WorkReader", name := "again", desc := "()LGrowingDoor$Row;" } : Jvm.MethodName)) ∈ lw_all := lw_g (lw_at lw_m4 185 rfl) rfl
theorem q991 : (Jvm.Cond.code ({ cls := "GrowingDoor$WorkReader", name := "again", desc := "()LGrowingDoor$Row;" } : Jvm.MethodName) prog_21_method_5_code (2 : Nat) (Option.some (Jvm.ClassFile.FieldType.object "GrowingDoor$Row"))) ∈ lw_all := lw_g (lw_at lw_m4 186 rfl) rfl
theorem q992 : (Jvm.Cond.methodLink "GrowingDoor$WorkReader" (108 : Nat) ({ cls := "GrowingDoor$Reader", name := "sign", desc := "(C)V" } : Jvm.MethodName)) ∈ lw_all := lw_g (lw_at lw_m4 187 rfl) rfl
theorem q993 : (Jvm.Cond.methodLink "GrowingDoor$WorkReader" (112 : Nat) ({ cls := "GrowingDoor$Reader", name := "takesSign", desc := "(C)Z" } : Jvm.MethodName)) ∈ lw_all := lw_g (lw_at lw_m4 188 rfl) rfl
theorem q994 : (Jvm.Cond.methodLink "GrowingDoor$WorkReader" (56 : Nat) ({ cls := "GrowingDoor$Row", name := "adds", desc := "(LGrowingDoor$Step;)V" } : Jvm.MethodName)) ∈ lw_all := lw_g (lw_at lw_m4 189 rfl) rfl
theorem q998 : (Jvm.Cond.methodLink "GrowingDoor$WorkReader" (116 : Nat) ({ cls := "GrowingDoor$Reader", name := "closes", desc := "()V" } : Jvm.MethodName)) ∈ lw_all := lw_g (lw_at lw_m4 193 rfl) rfl
theorem q2070 : (Jvm.Cond.castable "GrowingDoor$WorkReader" "java/lang/Object") ∈ lw_tbl := lw_at lw_m9 65 rfl
theorem in_X16 : ∀ w ∈ wsX160, w ∈ lw_all := lw_in wsX160 [904, 906, 908] (by decide +kernel) (by decide +kernel)
/-! GrowingDoor$Step -/
set_option maxRecDepth 100000
def RX17 : String := "GrowingDoor$Step"
abbrev cX17_init : ByteArray := prog_18_method_1_code
def yX17_init : MethodName := ⟨RX17, "<init>", "()V"⟩
theorem dX17_init_0 : decode cX17_init 0 = .ok (.aload_n 0, 1) := by decide +kernel
theorem dX17_init_1 : decode cX17_init 1 = .ok (.invokespecial 1, 3) := by decide +kernel
theorem dX17_init_4 : decode cX17_init 4 = .ok (.return_, 1) := by decide +kernel
theorem q112 : (Jvm.Cond.initialized "GrowingDoor$Step") ∈ lw_all := lw_g (lw_at lw_m1 27 rfl) rfl
theorem q921 : (Jvm.Cond.instanceMethod ({ cls := "GrowingDoor$Step", name := "<init>", desc := "()V" } : Jvm.MethodName)) ∈ lw_all := lw_g (lw_at lw_m4 116 rfl) rfl
theorem q922 : (Jvm.Cond.code ({ cls := "GrowingDoor$Step", name := "<init>", desc := "()V" } : Jvm.MethodName) prog_18_method_1_code (1 : Nat) (Option.none : Option Jvm.ClassFile.FieldType)) ∈ lw_all := lw_g (lw_at lw_m4 117 rfl) rfl
theorem q923 : (Jvm.Cond.methodLink "GrowingDoor$Step" (1 : Nat) ({ cls := "java/lang/Object", name := "<init>", desc := "()V" } : Jvm.MethodName)) ∈ lw_all := lw_g (lw_at lw_m4 118 rfl) rfl
theorem q1037 : (Jvm.Cond.declares ({ cls := "GrowingDoor$Step", name := "acts", desc := "(LGrowingDoor$Run;)V" } : Jvm.MethodName)) ∈ lw_tbl := lw_at lw_m4 232 rfl
theorem q1038 : (Jvm.Cond.sameMethod "GrowingDoor$Step" "GrowingDoor$Step" "acts" "(LGrowingDoor$Run;)V") ∈ lw_all := lw_g (lw_at lw_m4 233 rfl) rfl
/-! GrowingDoor$Row -/
set_option maxRecDepth 100000
def RX18 : String := "GrowingDoor$Row"
def TX18 : u_T := fun k => match k with
  | 0 => ("GrowingDoor$Row", "times", "I", true)
  | 1 => ("GrowingDoor$Row", "steps", "[LGrowingDoor$Step;", false)
  | _ => ("GrowingDoor$Row", "many", "I", false)
def tyX18 : Nat → FieldType := fun k => match k with
  | 0 => .int
  | 1 => .array (.object "GrowingDoor$Step")
  | _ => .int
abbrev wsX180 : List Cond := u_ws RX18 TX18 3
theorem nmX18 : ∀ a, a < 3 → ∀ b, b < 3 → a ≠ b → (TX18 a).2.1 ≠ (TX18 b).2.1 := by decide +kernel
theorem tyX18_ok : ∀ k, k < 3 → parseFieldDescriptor (TX18 k).2.2.1 = some (tyX18 k) := by decide +kernel
abbrev cX18_init : ByteArray := prog_12_method_1_code
def yX18_init : MethodName := ⟨RX18, "<init>", "(I)V"⟩
def dkwX18_init_0 : List UInt8 := [42, 183, 0, 1, 42, 7, 189, 0, 2, 181, 0, 7, 42, 27, 181, 0, 13, 177]
abbrev dktX18_init_0 : List UInt8 := dkwX18_init_0 ++ []
theorem dksX18_init_0 : cX18_init.data.toList.drop 0 = dktX18_init_0 := by decide +kernel
theorem dX18_init_0 : decode cX18_init 0 = .ok (.aload_n 0, 1) := dk_42 (dk_at dksX18_init_0 0 rfl rfl)
theorem dX18_init_1 : decode cX18_init 1 = .ok (.invokespecial 1, 3) := dk_183 0 1 (dk_at dksX18_init_0 1 rfl rfl)
theorem dX18_init_4 : decode cX18_init 4 = .ok (.aload_n 0, 1) := dk_42 (dk_at dksX18_init_0 4 rfl rfl)
theorem dX18_init_5 : decode cX18_init 5 = .ok (.iconst 4, 1) := dk_7 (dk_at dksX18_init_0 5 rfl rfl)
theorem dX18_init_6 : decode cX18_init 6 = .ok (.anewarray 2, 3) := dk_189 0 2 (dk_at dksX18_init_0 6 rfl rfl)
theorem dX18_init_9 : decode cX18_init 9 = .ok (.putfield 7, 3) := dk_181 0 7 (dk_at dksX18_init_0 9 rfl rfl)
theorem dX18_init_12 : decode cX18_init 12 = .ok (.aload_n 0, 1) := dk_42 (dk_at dksX18_init_0 12 rfl rfl)
theorem dX18_init_13 : decode cX18_init 13 = .ok (.iload_n 1, 1) := dk_27 (dk_at dksX18_init_0 13 rfl rfl)
theorem dX18_init_14 : decode cX18_init 14 = .ok (.putfield 13, 3) := dk_181 0 13 (dk_at dksX18_init_0 14 rfl rfl)
theorem dX18_init_17 : decode cX18_init 17 = .ok (.return_, 1) := dk_177 (dk_at dksX18_init_0 17 rfl rfl)
abbrev cX18_adds : ByteArray := prog_12_method_2_code
def yX18_adds : MethodName := ⟨RX18, "adds", "(LGrowingDoor$Step;)V"⟩
def dkwX18_adds_2 : List UInt8 := [44, 181, 0, 7, 42, 180, 0, 7, 42, 89, 180, 0, 17, 90, 4, 96, 181, 0, 17, 43, 83, 177]
abbrev dktX18_adds_2 : List UInt8 := dkwX18_adds_2 ++ []
def dkwX18_adds_1 : List UInt8 := [29, 42, 180, 0, 17, 162, 0, 18, 44, 29, 42, 180, 0, 7, 29, 50, 83, 132, 3, 1, 167, 255, 236, 42]
abbrev dktX18_adds_1 : List UInt8 := dkwX18_adds_1 ++ dktX18_adds_2
def dkwX18_adds_0 : List UInt8 := [42, 180, 0, 17, 42, 180, 0, 7, 190, 160, 0, 43, 5, 42, 180, 0, 17, 104, 189, 0, 2, 77, 3, 62]
abbrev dktX18_adds_0 : List UInt8 := dkwX18_adds_0 ++ dktX18_adds_1
theorem dksX18_adds_0 : cX18_adds.data.toList.drop 0 = dktX18_adds_0 := by decide +kernel
theorem dksX18_adds_1 : cX18_adds.data.toList.drop 24 = dktX18_adds_1 := dk_seg dksX18_adds_0 24 rfl rfl
theorem dksX18_adds_2 : cX18_adds.data.toList.drop 48 = dktX18_adds_2 := dk_seg dksX18_adds_1 24 rfl rfl
theorem dX18_adds_0 : decode cX18_adds 0 = .ok (.aload_n 0, 1) := dk_42 (dk_at dksX18_adds_0 0 rfl rfl)
theorem dX18_adds_1 : decode cX18_adds 1 = .ok (.getfield 17, 3) := dk_180 0 17 (dk_at dksX18_adds_0 1 rfl rfl)
theorem dX18_adds_4 : decode cX18_adds 4 = .ok (.aload_n 0, 1) := dk_42 (dk_at dksX18_adds_0 4 rfl rfl)
theorem dX18_adds_5 : decode cX18_adds 5 = .ok (.getfield 7, 3) := dk_180 0 7 (dk_at dksX18_adds_0 5 rfl rfl)
theorem dX18_adds_8 : decode cX18_adds 8 = .ok (.arraylength, 1) := dk_190 (dk_at dksX18_adds_0 8 rfl rfl)
theorem dX18_adds_9 : decode cX18_adds 9 = .ok (.if_icmp .ne 43, 3) := dk_160 0 43 (dk_at dksX18_adds_0 9 rfl rfl)
theorem dX18_adds_12 : decode cX18_adds 12 = .ok (.iconst 2, 1) := dk_5 (dk_at dksX18_adds_0 12 rfl rfl)
theorem dX18_adds_13 : decode cX18_adds 13 = .ok (.aload_n 0, 1) := dk_42 (dk_at dksX18_adds_0 13 rfl rfl)
theorem dX18_adds_14 : decode cX18_adds 14 = .ok (.getfield 17, 3) := dk_180 0 17 (dk_at dksX18_adds_0 14 rfl rfl)
theorem dX18_adds_17 : decode cX18_adds 17 = .ok (.imul, 1) := dk_104 (dk_at dksX18_adds_0 17 rfl rfl)
theorem dX18_adds_18 : decode cX18_adds 18 = .ok (.anewarray 2, 3) := dk_189 0 2 (dk_at dksX18_adds_0 18 rfl rfl)
theorem dX18_adds_21 : decode cX18_adds 21 = .ok (.astore_n 2, 1) := dk_77 (dk_at dksX18_adds_0 21 rfl rfl)
theorem dX18_adds_22 : decode cX18_adds 22 = .ok (.iconst 0, 1) := dk_3 (dk_at dksX18_adds_0 22 rfl rfl)
theorem dX18_adds_23 : decode cX18_adds 23 = .ok (.istore_n 3, 1) := dk_62 (dk_at dksX18_adds_0 23 rfl rfl)
theorem dX18_adds_24 : decode cX18_adds 24 = .ok (.iload_n 3, 1) := dk_29 (dk_at dksX18_adds_1 0 rfl rfl)
theorem dX18_adds_25 : decode cX18_adds 25 = .ok (.aload_n 0, 1) := dk_42 (dk_at dksX18_adds_1 1 rfl rfl)
theorem dX18_adds_26 : decode cX18_adds 26 = .ok (.getfield 17, 3) := dk_180 0 17 (dk_at dksX18_adds_1 2 rfl rfl)
theorem dX18_adds_29 : decode cX18_adds 29 = .ok (.if_icmp .ge 18, 3) := dk_162 0 18 (dk_at dksX18_adds_1 5 rfl rfl)
theorem dX18_adds_32 : decode cX18_adds 32 = .ok (.aload_n 2, 1) := dk_44 (dk_at dksX18_adds_1 8 rfl rfl)
theorem dX18_adds_33 : decode cX18_adds 33 = .ok (.iload_n 3, 1) := dk_29 (dk_at dksX18_adds_1 9 rfl rfl)
theorem dX18_adds_34 : decode cX18_adds 34 = .ok (.aload_n 0, 1) := dk_42 (dk_at dksX18_adds_1 10 rfl rfl)
theorem dX18_adds_35 : decode cX18_adds 35 = .ok (.getfield 7, 3) := dk_180 0 7 (dk_at dksX18_adds_1 11 rfl rfl)
theorem dX18_adds_38 : decode cX18_adds 38 = .ok (.iload_n 3, 1) := dk_29 (dk_at dksX18_adds_1 14 rfl rfl)
theorem dX18_adds_39 : decode cX18_adds 39 = .ok (.aaload, 1) := dk_50 (dk_at dksX18_adds_1 15 rfl rfl)
theorem dX18_adds_40 : decode cX18_adds 40 = .ok (.aastore, 1) := dk_83 (dk_at dksX18_adds_1 16 rfl rfl)
theorem dX18_adds_41 : decode cX18_adds 41 = .ok (.iinc 3 1, 3) := dk_132 3 1 (dk_at dksX18_adds_1 17 rfl rfl)
theorem dX18_adds_44 : decode cX18_adds 44 = .ok (.goto (-20), 3) := dk_167 255 236 (dk_at dksX18_adds_1 20 rfl rfl)
theorem dX18_adds_47 : decode cX18_adds 47 = .ok (.aload_n 0, 1) := dk_42 (dk_at dksX18_adds_1 23 rfl rfl)
theorem dX18_adds_48 : decode cX18_adds 48 = .ok (.aload_n 2, 1) := dk_44 (dk_at dksX18_adds_2 0 rfl rfl)
theorem dX18_adds_49 : decode cX18_adds 49 = .ok (.putfield 7, 3) := dk_181 0 7 (dk_at dksX18_adds_2 1 rfl rfl)
theorem dX18_adds_52 : decode cX18_adds 52 = .ok (.aload_n 0, 1) := dk_42 (dk_at dksX18_adds_2 4 rfl rfl)
theorem dX18_adds_53 : decode cX18_adds 53 = .ok (.getfield 7, 3) := dk_180 0 7 (dk_at dksX18_adds_2 5 rfl rfl)
theorem dX18_adds_56 : decode cX18_adds 56 = .ok (.aload_n 0, 1) := dk_42 (dk_at dksX18_adds_2 8 rfl rfl)
theorem dX18_adds_57 : decode cX18_adds 57 = .ok (.dup, 1) := dk_89 (dk_at dksX18_adds_2 9 rfl rfl)
theorem dX18_adds_58 : decode cX18_adds 58 = .ok (.getfield 17, 3) := dk_180 0 17 (dk_at dksX18_adds_2 10 rfl rfl)
theorem dX18_adds_61 : decode cX18_adds 61 = .ok (.dup_x1, 1) := dk_90 (dk_at dksX18_adds_2 13 rfl rfl)
theorem dX18_adds_62 : decode cX18_adds 62 = .ok (.iconst 1, 1) := dk_4 (dk_at dksX18_adds_2 14 rfl rfl)
theorem dX18_adds_63 : decode cX18_adds 63 = .ok (.iadd, 1) := dk_96 (dk_at dksX18_adds_2 15 rfl rfl)
theorem dX18_adds_64 : decode cX18_adds 64 = .ok (.putfield 17, 3) := dk_181 0 17 (dk_at dksX18_adds_2 16 rfl rfl)
theorem dX18_adds_67 : decode cX18_adds 67 = .ok (.aload_n 1, 1) := dk_43 (dk_at dksX18_adds_2 19 rfl rfl)
theorem dX18_adds_68 : decode cX18_adds 68 = .ok (.aastore, 1) := dk_83 (dk_at dksX18_adds_2 20 rfl rfl)
theorem dX18_adds_69 : decode cX18_adds 69 = .ok (.return_, 1) := dk_177 (dk_at dksX18_adds_2 21 rfl rfl)
abbrev cX18_acts : ByteArray := prog_12_method_3_code
def yX18_acts : MethodName := ⟨RX18, "acts", "(LGrowingDoor$Run;)V"⟩
def dkwX18_acts_2 : List UInt8 := [167, 255, 228, 132, 2, 1, 167, 255, 205, 177]
abbrev dktX18_acts_2 : List UInt8 := dkwX18_acts_2 ++ []
def dkwX18_acts_1 : List UInt8 := [162, 0, 26, 43, 182, 0, 20, 153, 0, 19, 43, 42, 180, 0, 7, 29, 50, 182, 0, 26, 132, 3, 1]
abbrev dktX18_acts_1 : List UInt8 := dkwX18_acts_1 ++ dktX18_acts_2
def dkwX18_acts_0 : List UInt8 := [3, 61, 28, 42, 180, 0, 13, 162, 0, 49, 43, 182, 0, 20, 153, 0, 42, 3, 62, 29, 42, 180, 0, 17]
abbrev dktX18_acts_0 : List UInt8 := dkwX18_acts_0 ++ dktX18_acts_1
theorem dksX18_acts_0 : cX18_acts.data.toList.drop 0 = dktX18_acts_0 := by decide +kernel
theorem dksX18_acts_1 : cX18_acts.data.toList.drop 24 = dktX18_acts_1 := dk_seg dksX18_acts_0 24 rfl rfl
theorem dksX18_acts_2 : cX18_acts.data.toList.drop 47 = dktX18_acts_2 := dk_seg dksX18_acts_1 23 rfl rfl
theorem dX18_acts_0 : decode cX18_acts 0 = .ok (.iconst 0, 1) := dk_3 (dk_at dksX18_acts_0 0 rfl rfl)
theorem dX18_acts_1 : decode cX18_acts 1 = .ok (.istore_n 2, 1) := dk_61 (dk_at dksX18_acts_0 1 rfl rfl)
theorem dX18_acts_2 : decode cX18_acts 2 = .ok (.iload_n 2, 1) := dk_28 (dk_at dksX18_acts_0 2 rfl rfl)
theorem dX18_acts_3 : decode cX18_acts 3 = .ok (.aload_n 0, 1) := dk_42 (dk_at dksX18_acts_0 3 rfl rfl)
theorem dX18_acts_4 : decode cX18_acts 4 = .ok (.getfield 13, 3) := dk_180 0 13 (dk_at dksX18_acts_0 4 rfl rfl)
theorem dX18_acts_7 : decode cX18_acts 7 = .ok (.if_icmp .ge 49, 3) := dk_162 0 49 (dk_at dksX18_acts_0 7 rfl rfl)
theorem dX18_acts_10 : decode cX18_acts 10 = .ok (.aload_n 1, 1) := dk_43 (dk_at dksX18_acts_0 10 rfl rfl)
theorem dX18_acts_11 : decode cX18_acts 11 = .ok (.invokevirtual 20, 3) := dk_182 0 20 (dk_at dksX18_acts_0 11 rfl rfl)
theorem dX18_acts_14 : decode cX18_acts 14 = .ok (.ifCond .eq 42, 3) := dk_153 0 42 (dk_at dksX18_acts_0 14 rfl rfl)
theorem dX18_acts_17 : decode cX18_acts 17 = .ok (.iconst 0, 1) := dk_3 (dk_at dksX18_acts_0 17 rfl rfl)
theorem dX18_acts_18 : decode cX18_acts 18 = .ok (.istore_n 3, 1) := dk_62 (dk_at dksX18_acts_0 18 rfl rfl)
theorem dX18_acts_19 : decode cX18_acts 19 = .ok (.iload_n 3, 1) := dk_29 (dk_at dksX18_acts_0 19 rfl rfl)
theorem dX18_acts_20 : decode cX18_acts 20 = .ok (.aload_n 0, 1) := dk_42 (dk_at dksX18_acts_0 20 rfl rfl)
theorem dX18_acts_21 : decode cX18_acts 21 = .ok (.getfield 17, 3) := dk_180 0 17 (dk_at dksX18_acts_0 21 rfl rfl)
theorem dX18_acts_24 : decode cX18_acts 24 = .ok (.if_icmp .ge 26, 3) := dk_162 0 26 (dk_at dksX18_acts_1 0 rfl rfl)
theorem dX18_acts_27 : decode cX18_acts 27 = .ok (.aload_n 1, 1) := dk_43 (dk_at dksX18_acts_1 3 rfl rfl)
theorem dX18_acts_28 : decode cX18_acts 28 = .ok (.invokevirtual 20, 3) := dk_182 0 20 (dk_at dksX18_acts_1 4 rfl rfl)
theorem dX18_acts_31 : decode cX18_acts 31 = .ok (.ifCond .eq 19, 3) := dk_153 0 19 (dk_at dksX18_acts_1 7 rfl rfl)
theorem dX18_acts_34 : decode cX18_acts 34 = .ok (.aload_n 1, 1) := dk_43 (dk_at dksX18_acts_1 10 rfl rfl)
theorem dX18_acts_35 : decode cX18_acts 35 = .ok (.aload_n 0, 1) := dk_42 (dk_at dksX18_acts_1 11 rfl rfl)
theorem dX18_acts_36 : decode cX18_acts 36 = .ok (.getfield 7, 3) := dk_180 0 7 (dk_at dksX18_acts_1 12 rfl rfl)
theorem dX18_acts_39 : decode cX18_acts 39 = .ok (.iload_n 3, 1) := dk_29 (dk_at dksX18_acts_1 15 rfl rfl)
theorem dX18_acts_40 : decode cX18_acts 40 = .ok (.aaload, 1) := dk_50 (dk_at dksX18_acts_1 16 rfl rfl)
theorem dX18_acts_41 : decode cX18_acts 41 = .ok (.invokevirtual 26, 3) := dk_182 0 26 (dk_at dksX18_acts_1 17 rfl rfl)
theorem dX18_acts_44 : decode cX18_acts 44 = .ok (.iinc 3 1, 3) := dk_132 3 1 (dk_at dksX18_acts_1 20 rfl rfl)
theorem dX18_acts_47 : decode cX18_acts 47 = .ok (.goto (-28), 3) := dk_167 255 228 (dk_at dksX18_acts_2 0 rfl rfl)
theorem dX18_acts_50 : decode cX18_acts 50 = .ok (.iinc 2 1, 3) := dk_132 2 1 (dk_at dksX18_acts_2 3 rfl rfl)
theorem dX18_acts_53 : decode cX18_acts 53 = .ok (.goto (-51), 3) := dk_167 255 205 (dk_at dksX18_acts_2 6 rfl rfl)
theorem dX18_acts_56 : decode cX18_acts 56 = .ok (.return_, 1) := dk_177 (dk_at dksX18_acts_2 9 rfl rfl)
theorem q113 : (Jvm.Cond.initialized "GrowingDoor$Row") ∈ lw_all := lw_g (lw_at lw_m1 28 rfl) rfl
theorem q916 : (Jvm.Cond.instantiable "GrowingDoor$Row" (3 : Nat)) ∈ lw_all := lw_g (lw_at lw_m4 111 rfl) rfl
theorem q918 : (Jvm.Cond.instanceMethod ({ cls := "GrowingDoor$Row", name := "<init>", desc := "(I)V" } : Jvm.MethodName)) ∈ lw_all := lw_g (lw_at lw_m4 113 rfl) rfl
theorem q919 : (Jvm.Cond.code ({ cls := "GrowingDoor$Row", name := "<init>", desc := "(I)V" } : Jvm.MethodName) prog_12_method_1_code (2 : Nat) (Option.none : Option Jvm.ClassFile.FieldType)) ∈ lw_all := lw_g (lw_at lw_m4 114 rfl) rfl
theorem q920 : (Jvm.Cond.methodLinkNest "GrowingDoor$Row" (1 : Nat) ({ cls := "GrowingDoor$Step", name := "<init>", desc := "()V" } : Jvm.MethodName) "GrowingDoor") ∈ lw_tbl := lw_at lw_m4 115 rfl
theorem q924 : (Jvm.Cond.classLink "GrowingDoor$Row" (2 : Nat) "GrowingDoor$Step") ∈ lw_all := lw_g (lw_at lw_m4 119 rfl) rfl
theorem q926 : (Jvm.Cond.fieldLink "GrowingDoor$Row" (13 : Nat) "GrowingDoor$Row" "times" "I") ∈ lw_all := lw_g (lw_at lw_m4 121 rfl) rfl
theorem q927 : (Jvm.Cond.fieldLink "GrowingDoor$Row" (7 : Nat) "GrowingDoor$Row" "steps" "[LGrowingDoor$Step;") ∈ lw_all := lw_g (lw_at lw_m4 122 rfl) rfl
theorem q928 : (Jvm.Cond.fieldLink "GrowingDoor$Row" (17 : Nat) "GrowingDoor$Row" "many" "I") ∈ lw_all := lw_g (lw_at lw_m4 123 rfl) rfl
theorem q929 : (Jvm.Cond.laysFinal "GrowingDoor$Row" "GrowingDoor$Row" "times" "I") ∈ lw_all := lw_g (lw_at lw_m4 124 rfl) rfl
theorem q930 : (Jvm.Cond.soleField "GrowingDoor$Row" "times") ∈ lw_all := lw_g (lw_at lw_m4 125 rfl) rfl
theorem q931 : (Jvm.Cond.lays "GrowingDoor$Row" "GrowingDoor$Row" "steps" "[LGrowingDoor$Step;") ∈ lw_all := lw_g (lw_at lw_m4 126 rfl) rfl
theorem q932 : (Jvm.Cond.soleField "GrowingDoor$Row" "steps") ∈ lw_all := lw_g (lw_at lw_m4 127 rfl) rfl
theorem q933 : (Jvm.Cond.lays "GrowingDoor$Row" "GrowingDoor$Row" "many" "I") ∈ lw_all := lw_g (lw_at lw_m4 128 rfl) rfl
theorem q934 : (Jvm.Cond.soleField "GrowingDoor$Row" "many") ∈ lw_all := lw_g (lw_at lw_m4 129 rfl) rfl
theorem q935 : (Jvm.Cond.superclass "GrowingDoor$Row" "GrowingDoor$Step") ∈ lw_all := lw_g (lw_at lw_m4 130 rfl) rfl
theorem q995 : (Jvm.Cond.instanceMethod ({ cls := "GrowingDoor$Row", name := "adds", desc := "(LGrowingDoor$Step;)V" } : Jvm.MethodName)) ∈ lw_all := lw_g (lw_at lw_m4 190 rfl) rfl
theorem q996 : (Jvm.Cond.selects "GrowingDoor$Row" ({ cls := "GrowingDoor$Row", name := "adds", desc := "(LGrowingDoor$Step;)V" } : Jvm.MethodName) ({ cls := "GrowingDoor$Row", name := "adds", desc := "(LGrowingDoor$Step;)V" } : Jvm.MethodName)) ∈ lw_all := lw_g (lw_at lw_m4 191 rfl) rfl
theorem q997 : (Jvm.Cond.code ({ cls := "GrowingDoor$Row", name := "adds", desc := "(LGrowingDoor$Step;)V" } : Jvm.MethodName) prog_12_method_2_code (4 : Nat) (Option.none : Option Jvm.ClassFile.FieldType)) ∈ lw_all := lw_g (lw_at lw_m4 192 rfl) rfl
theorem q1025 : (Jvm.Cond.instanceMethod ({ cls := "GrowingDoor$Row", name := "acts", desc := "(LGrowingDoor$Run;)V" } : Jvm.MethodName)) ∈ lw_all := lw_g (lw_at lw_m4 220 rfl) rfl
theorem q1026 : (Jvm.Cond.selects "GrowingDoor$Row" ({ cls := "GrowingDoor$Row", name := "acts", desc := "(LGrowingDoor$Run;)V" } : Jvm.MethodName) ({ cls := "GrowingDoor$Row", name := "acts", desc := "(LGrowingDoor$Run;)V" } : Jvm.MethodName)) ∈ lw_all := lw_g (lw_at lw_m4 221 rfl) rfl
theorem q1027 : (Jvm.Cond.code ({ cls := "GrowingDoor$Row", name := "acts", desc := "(LGrowingDoor$Run;)V" } : Jvm.MethodName) prog_12_method_3_code (4 : Nat) (Option.none : Option Jvm.ClassFile.FieldType)) ∈ lw_all := lw_g (lw_at lw_m4 222 rfl) rfl
theorem q1028 : (Jvm.Cond.methodLink "GrowingDoor$Row" (20 : Nat) ({ cls := "GrowingDoor$Run", name := "mayBegin", desc := "()Z" } : Jvm.MethodName)) ∈ lw_all := lw_g (lw_at lw_m4 223 rfl) rfl
theorem q1032 : (Jvm.Cond.methodLink "GrowingDoor$Row" (26 : Nat) ({ cls := "GrowingDoor$Run", name := "begins", desc := "(LGrowingDoor$Step;)V" } : Jvm.MethodName)) ∈ lw_all := lw_g (lw_at lw_m4 227 rfl) rfl
theorem q1156 : (Jvm.Cond.selects "GrowingDoor$Row" ({ cls := "GrowingDoor$Step", name := "acts", desc := "(LGrowingDoor$Run;)V" } : Jvm.MethodName) ({ cls := "GrowingDoor$Row", name := "acts", desc := "(LGrowingDoor$Run;)V" } : Jvm.MethodName)) ∈ lw_all := lw_g (lw_at lw_m5 111 rfl) rfl
theorem q2071 : (Jvm.Cond.castable "GrowingDoor$Row" "java/lang/Object") ∈ lw_tbl := lw_at lw_m9 66 rfl
theorem q2079 : (Jvm.Cond.castable "GrowingDoor$Row" "GrowingDoor$Step") ∈ lw_tbl := lw_at lw_m9 74 rfl
theorem in_X18 : ∀ w ∈ wsX180, w ∈ lw_all := lw_in wsX180 [929, 931, 933] (by decide +kernel) (by decide +kernel)
/-! GrowingDoor$One -/
set_option maxRecDepth 100000
def RX19 : String := "GrowingDoor$One"
def TX19 : u_T := fun k => match k with
  | 0 => ("GrowingDoor$One", "what", "I", true)
  | _ => ("GrowingDoor$One", "boy", "I", true)
def tyX19 : Nat → FieldType := fun k => match k with
  | 0 => .int
  | _ => .int
abbrev wsX190 : List Cond := u_ws RX19 TX19 2
theorem nmX19 : ∀ a, a < 2 → ∀ b, b < 2 → a ≠ b → (TX19 a).2.1 ≠ (TX19 b).2.1 := by decide +kernel
theorem tyX19_ok : ∀ k, k < 2 → parseFieldDescriptor (TX19 k).2.2.1 = some (tyX19 k) := by decide +kernel
abbrev cX19_init : ByteArray := prog_9_method_1_code
def yX19_init : MethodName := ⟨RX19, "<init>", "(II)V"⟩
def dkwX19_init_0 : List UInt8 := [42, 183, 0, 1, 42, 27, 181, 0, 7, 42, 28, 181, 0, 13, 177]
abbrev dktX19_init_0 : List UInt8 := dkwX19_init_0 ++ []
theorem dksX19_init_0 : cX19_init.data.toList.drop 0 = dktX19_init_0 := by decide +kernel
theorem dX19_init_0 : decode cX19_init 0 = .ok (.aload_n 0, 1) := dk_42 (dk_at dksX19_init_0 0 rfl rfl)
theorem dX19_init_1 : decode cX19_init 1 = .ok (.invokespecial 1, 3) := dk_183 0 1 (dk_at dksX19_init_0 1 rfl rfl)
theorem dX19_init_4 : decode cX19_init 4 = .ok (.aload_n 0, 1) := dk_42 (dk_at dksX19_init_0 4 rfl rfl)
theorem dX19_init_5 : decode cX19_init 5 = .ok (.iload_n 1, 1) := dk_27 (dk_at dksX19_init_0 5 rfl rfl)
theorem dX19_init_6 : decode cX19_init 6 = .ok (.putfield 7, 3) := dk_181 0 7 (dk_at dksX19_init_0 6 rfl rfl)
theorem dX19_init_9 : decode cX19_init 9 = .ok (.aload_n 0, 1) := dk_42 (dk_at dksX19_init_0 9 rfl rfl)
theorem dX19_init_10 : decode cX19_init 10 = .ok (.iload_n 2, 1) := dk_28 (dk_at dksX19_init_0 10 rfl rfl)
theorem dX19_init_11 : decode cX19_init 11 = .ok (.putfield 13, 3) := dk_181 0 13 (dk_at dksX19_init_0 11 rfl rfl)
theorem dX19_init_14 : decode cX19_init 14 = .ok (.return_, 1) := dk_177 (dk_at dksX19_init_0 14 rfl rfl)
abbrev cX19_acts : ByteArray := prog_9_method_2_code
def yX19_acts : MethodName := ⟨RX19, "acts", "(LGrowingDoor$Run;)V"⟩
def dkwX19_acts_2 : List UInt8 := [182, 0, 32, 177]
abbrev dktX19_acts_2 : List UInt8 := dkwX19_acts_2 ++ []
def dkwX19_acts_1 : List UInt8 := [180, 0, 16, 42, 180, 0, 13, 42, 180, 0, 7, 8, 160, 0, 7, 4, 167, 0, 4, 3, 182, 0, 28]
abbrev dktX19_acts_1 : List UInt8 := dkwX19_acts_1 ++ dktX19_acts_2
def dkwX19_acts_0 : List UInt8 := [43, 42, 180, 0, 7, 154, 0, 17, 43, 180, 0, 16, 42, 180, 0, 13, 182, 0, 22, 167, 0, 27, 43]
abbrev dktX19_acts_0 : List UInt8 := dkwX19_acts_0 ++ dktX19_acts_1
theorem dksX19_acts_0 : cX19_acts.data.toList.drop 0 = dktX19_acts_0 := by decide +kernel
theorem dksX19_acts_1 : cX19_acts.data.toList.drop 23 = dktX19_acts_1 := dk_seg dksX19_acts_0 23 rfl rfl
theorem dksX19_acts_2 : cX19_acts.data.toList.drop 46 = dktX19_acts_2 := dk_seg dksX19_acts_1 23 rfl rfl
theorem dX19_acts_0 : decode cX19_acts 0 = .ok (.aload_n 1, 1) := dk_43 (dk_at dksX19_acts_0 0 rfl rfl)
theorem dX19_acts_1 : decode cX19_acts 1 = .ok (.aload_n 0, 1) := dk_42 (dk_at dksX19_acts_0 1 rfl rfl)
theorem dX19_acts_2 : decode cX19_acts 2 = .ok (.getfield 7, 3) := dk_180 0 7 (dk_at dksX19_acts_0 2 rfl rfl)
theorem dX19_acts_5 : decode cX19_acts 5 = .ok (.ifCond .ne 17, 3) := dk_154 0 17 (dk_at dksX19_acts_0 5 rfl rfl)
theorem dX19_acts_8 : decode cX19_acts 8 = .ok (.aload_n 1, 1) := dk_43 (dk_at dksX19_acts_0 8 rfl rfl)
theorem dX19_acts_9 : decode cX19_acts 9 = .ok (.getfield 16, 3) := dk_180 0 16 (dk_at dksX19_acts_0 9 rfl rfl)
theorem dX19_acts_12 : decode cX19_acts 12 = .ok (.aload_n 0, 1) := dk_42 (dk_at dksX19_acts_0 12 rfl rfl)
theorem dX19_acts_13 : decode cX19_acts 13 = .ok (.getfield 13, 3) := dk_180 0 13 (dk_at dksX19_acts_0 13 rfl rfl)
theorem dX19_acts_16 : decode cX19_acts 16 = .ok (.invokevirtual 22, 3) := dk_182 0 22 (dk_at dksX19_acts_0 16 rfl rfl)
theorem dX19_acts_19 : decode cX19_acts 19 = .ok (.goto 27, 3) := dk_167 0 27 (dk_at dksX19_acts_0 19 rfl rfl)
theorem dX19_acts_22 : decode cX19_acts 22 = .ok (.aload_n 1, 1) := dk_43 (dk_at dksX19_acts_0 22 rfl rfl)
theorem dX19_acts_23 : decode cX19_acts 23 = .ok (.getfield 16, 3) := dk_180 0 16 (dk_at dksX19_acts_1 0 rfl rfl)
theorem dX19_acts_26 : decode cX19_acts 26 = .ok (.aload_n 0, 1) := dk_42 (dk_at dksX19_acts_1 3 rfl rfl)
theorem dX19_acts_27 : decode cX19_acts 27 = .ok (.getfield 13, 3) := dk_180 0 13 (dk_at dksX19_acts_1 4 rfl rfl)
theorem dX19_acts_30 : decode cX19_acts 30 = .ok (.aload_n 0, 1) := dk_42 (dk_at dksX19_acts_1 7 rfl rfl)
theorem dX19_acts_31 : decode cX19_acts 31 = .ok (.getfield 7, 3) := dk_180 0 7 (dk_at dksX19_acts_1 8 rfl rfl)
theorem dX19_acts_34 : decode cX19_acts 34 = .ok (.iconst 5, 1) := dk_8 (dk_at dksX19_acts_1 11 rfl rfl)
theorem dX19_acts_35 : decode cX19_acts 35 = .ok (.if_icmp .ne 7, 3) := dk_160 0 7 (dk_at dksX19_acts_1 12 rfl rfl)
theorem dX19_acts_38 : decode cX19_acts 38 = .ok (.iconst 1, 1) := dk_4 (dk_at dksX19_acts_1 15 rfl rfl)
theorem dX19_acts_39 : decode cX19_acts 39 = .ok (.goto 4, 3) := dk_167 0 4 (dk_at dksX19_acts_1 16 rfl rfl)
theorem dX19_acts_42 : decode cX19_acts 42 = .ok (.iconst 0, 1) := dk_3 (dk_at dksX19_acts_1 19 rfl rfl)
theorem dX19_acts_43 : decode cX19_acts 43 = .ok (.invokevirtual 28, 3) := dk_182 0 28 (dk_at dksX19_acts_1 20 rfl rfl)
theorem dX19_acts_46 : decode cX19_acts 46 = .ok (.invokevirtual 32, 3) := dk_182 0 32 (dk_at dksX19_acts_2 0 rfl rfl)
theorem dX19_acts_49 : decode cX19_acts 49 = .ok (.return_, 1) := dk_177 (dk_at dksX19_acts_2 3 rfl rfl)
theorem q114 : (Jvm.Cond.initialized "GrowingDoor$One") ∈ lw_all := lw_g (lw_at lw_m1 29 rfl) rfl
theorem q948 : (Jvm.Cond.instantiable "GrowingDoor$One" (2 : Nat)) ∈ lw_all := lw_g (lw_at lw_m4 143 rfl) rfl
theorem q955 : (Jvm.Cond.instanceMethod ({ cls := "GrowingDoor$One", name := "<init>", desc := "(II)V" } : Jvm.MethodName)) ∈ lw_all := lw_g (lw_at lw_m4 150 rfl) rfl
theorem q956 : (Jvm.Cond.code ({ cls := "GrowingDoor$One", name := "<init>", desc := "(II)V" } : Jvm.MethodName) prog_9_method_1_code (3 : Nat) (Option.none : Option Jvm.ClassFile.FieldType)) ∈ lw_all := lw_g (lw_at lw_m4 151 rfl) rfl
theorem q957 : (Jvm.Cond.methodLinkNest "GrowingDoor$One" (1 : Nat) ({ cls := "GrowingDoor$Step", name := "<init>", desc := "()V" } : Jvm.MethodName) "GrowingDoor") ∈ lw_tbl := lw_at lw_m4 152 rfl
theorem q958 : (Jvm.Cond.fieldLink "GrowingDoor$One" (7 : Nat) "GrowingDoor$One" "what" "I") ∈ lw_all := lw_g (lw_at lw_m4 153 rfl) rfl
theorem q959 : (Jvm.Cond.fieldLink "GrowingDoor$One" (13 : Nat) "GrowingDoor$One" "boy" "I") ∈ lw_all := lw_g (lw_at lw_m4 154 rfl) rfl
theorem q960 : (Jvm.Cond.laysFinal "GrowingDoor$One" "GrowingDoor$One" "what" "I") ∈ lw_all := lw_g (lw_at lw_m4 155 rfl) rfl
theorem q961 : (Jvm.Cond.soleField "GrowingDoor$One" "what") ∈ lw_all := lw_g (lw_at lw_m4 156 rfl) rfl
theorem q962 : (Jvm.Cond.laysFinal "GrowingDoor$One" "GrowingDoor$One" "boy" "I") ∈ lw_all := lw_g (lw_at lw_m4 157 rfl) rfl
theorem q963 : (Jvm.Cond.soleField "GrowingDoor$One" "boy") ∈ lw_all := lw_g (lw_at lw_m4 158 rfl) rfl
theorem q964 : (Jvm.Cond.superclass "GrowingDoor$One" "GrowingDoor$Step") ∈ lw_all := lw_g (lw_at lw_m4 159 rfl) rfl
theorem q1008 : (Jvm.Cond.fieldLinkNest "GrowingDoor$One" (16 : Nat) "GrowingDoor$Run" "state" "LGrowingDoor$State;" "GrowingDoor") ∈ lw_tbl := lw_at lw_m4 203 rfl
theorem q1120 : (Jvm.Cond.selects "GrowingDoor$One" ({ cls := "GrowingDoor$Step", name := "acts", desc := "(LGrowingDoor$Run;)V" } : Jvm.MethodName) ({ cls := "GrowingDoor$One", name := "acts", desc := "(LGrowingDoor$Run;)V" } : Jvm.MethodName)) ∈ lw_all := lw_g (lw_at lw_m5 75 rfl) rfl
theorem q1121 : (Jvm.Cond.instanceMethod ({ cls := "GrowingDoor$One", name := "acts", desc := "(LGrowingDoor$Run;)V" } : Jvm.MethodName)) ∈ lw_all := lw_g (lw_at lw_m5 76 rfl) rfl
theorem q1122 : (Jvm.Cond.code ({ cls := "GrowingDoor$One", name := "acts", desc := "(LGrowingDoor$Run;)V" } : Jvm.MethodName) prog_9_method_2_code (2 : Nat) (Option.none : Option Jvm.ClassFile.FieldType)) ∈ lw_all := lw_g (lw_at lw_m5 77 rfl) rfl
theorem q1123 : (Jvm.Cond.methodLink "GrowingDoor$One" (22 : Nat) ({ cls := "GrowingDoor$State", name := "notches", desc := "(I)Z" } : Jvm.MethodName)) ∈ lw_all := lw_g (lw_at lw_m5 78 rfl) rfl
theorem q1135 : (Jvm.Cond.methodLink "GrowingDoor$One" (28 : Nat) ({ cls := "GrowingDoor$State", name := "goes", desc := "(IZ)Z" } : Jvm.MethodName)) ∈ lw_all := lw_g (lw_at lw_m5 90 rfl) rfl
theorem q1139 : (Jvm.Cond.methodLink "GrowingDoor$One" (32 : Nat) ({ cls := "GrowingDoor$Run", name := "tells", desc := "(Z)V" } : Jvm.MethodName)) ∈ lw_all := lw_g (lw_at lw_m5 94 rfl) rfl
theorem q2072 : (Jvm.Cond.castable "GrowingDoor$One" "java/lang/Object") ∈ lw_tbl := lw_at lw_m9 67 rfl
theorem q2080 : (Jvm.Cond.castable "GrowingDoor$One" "GrowingDoor$Step") ∈ lw_tbl := lw_at lw_m9 75 rfl
theorem in_X19 : ∀ w ∈ wsX190, w ∈ lw_all := lw_in wsX190 [960, 962] (by decide +kernel) (by decide +kernel)
/-! GrowingDoor$Pair -/
set_option maxRecDepth 100000
def RX20 : String := "GrowingDoor$Pair"
def TX20 : u_T := fun k => match k with
  | 0 => ("GrowingDoor$Pair", "what", "I", true)
  | 1 => ("GrowingDoor$Pair", "one", "I", true)
  | _ => ("GrowingDoor$Pair", "n", "I", true)
def tyX20 : Nat → FieldType := fun k => match k with
  | 0 => .int
  | 1 => .int
  | _ => .int
abbrev wsX200 : List Cond := u_ws RX20 TX20 3
theorem nmX20 : ∀ a, a < 3 → ∀ b, b < 3 → a ≠ b → (TX20 a).2.1 ≠ (TX20 b).2.1 := by decide +kernel
theorem tyX20_ok : ∀ k, k < 3 → parseFieldDescriptor (TX20 k).2.2.1 = some (tyX20 k) := by decide +kernel
abbrev cX20_init : ByteArray := prog_10_method_1_code
def yX20_init : MethodName := ⟨RX20, "<init>", "(III)V"⟩
def dkwX20_init_0 : List UInt8 := [42, 183, 0, 1, 42, 27, 181, 0, 7, 42, 28, 181, 0, 13, 42, 29, 181, 0, 16, 177]
abbrev dktX20_init_0 : List UInt8 := dkwX20_init_0 ++ []
theorem dksX20_init_0 : cX20_init.data.toList.drop 0 = dktX20_init_0 := by decide +kernel
theorem dX20_init_0 : decode cX20_init 0 = .ok (.aload_n 0, 1) := dk_42 (dk_at dksX20_init_0 0 rfl rfl)
theorem dX20_init_1 : decode cX20_init 1 = .ok (.invokespecial 1, 3) := dk_183 0 1 (dk_at dksX20_init_0 1 rfl rfl)
theorem dX20_init_4 : decode cX20_init 4 = .ok (.aload_n 0, 1) := dk_42 (dk_at dksX20_init_0 4 rfl rfl)
theorem dX20_init_5 : decode cX20_init 5 = .ok (.iload_n 1, 1) := dk_27 (dk_at dksX20_init_0 5 rfl rfl)
theorem dX20_init_6 : decode cX20_init 6 = .ok (.putfield 7, 3) := dk_181 0 7 (dk_at dksX20_init_0 6 rfl rfl)
theorem dX20_init_9 : decode cX20_init 9 = .ok (.aload_n 0, 1) := dk_42 (dk_at dksX20_init_0 9 rfl rfl)
theorem dX20_init_10 : decode cX20_init 10 = .ok (.iload_n 2, 1) := dk_28 (dk_at dksX20_init_0 10 rfl rfl)
theorem dX20_init_11 : decode cX20_init 11 = .ok (.putfield 13, 3) := dk_181 0 13 (dk_at dksX20_init_0 11 rfl rfl)
theorem dX20_init_14 : decode cX20_init 14 = .ok (.aload_n 0, 1) := dk_42 (dk_at dksX20_init_0 14 rfl rfl)
theorem dX20_init_15 : decode cX20_init 15 = .ok (.iload_n 3, 1) := dk_29 (dk_at dksX20_init_0 15 rfl rfl)
theorem dX20_init_16 : decode cX20_init 16 = .ok (.putfield 16, 3) := dk_181 0 16 (dk_at dksX20_init_0 16 rfl rfl)
theorem dX20_init_19 : decode cX20_init 19 = .ok (.return_, 1) := dk_177 (dk_at dksX20_init_0 19 rfl rfl)
abbrev cX20_acts : ByteArray := prog_10_method_2_code
def yX20_acts : MethodName := ⟨RX20, "acts", "(LGrowingDoor$Run;)V"⟩
def dkwX20_acts_2 : List UInt8 := [167, 0, 18, 43, 180, 0, 19, 42, 180, 0, 13, 42, 180, 0, 16, 182, 0, 35, 182, 0, 38, 177]
abbrev dktX20_acts_2 : List UInt8 := dkwX20_acts_2 ++ []
def dkwX20_acts_1 : List UInt8 := [167, 0, 40, 42, 180, 0, 7, 5, 160, 0, 17, 43, 180, 0, 19, 42, 180, 0, 16, 182, 0, 31]
abbrev dktX20_acts_1 : List UInt8 := dkwX20_acts_1 ++ dktX20_acts_2
def dkwX20_acts_0 : List UInt8 := [43, 42, 180, 0, 7, 4, 160, 0, 21, 43, 180, 0, 19, 42, 180, 0, 13, 42, 180, 0, 16, 182, 0, 25]
abbrev dktX20_acts_0 : List UInt8 := dkwX20_acts_0 ++ dktX20_acts_1
theorem dksX20_acts_0 : cX20_acts.data.toList.drop 0 = dktX20_acts_0 := by decide +kernel
theorem dksX20_acts_1 : cX20_acts.data.toList.drop 24 = dktX20_acts_1 := dk_seg dksX20_acts_0 24 rfl rfl
theorem dksX20_acts_2 : cX20_acts.data.toList.drop 46 = dktX20_acts_2 := dk_seg dksX20_acts_1 22 rfl rfl
theorem dX20_acts_0 : decode cX20_acts 0 = .ok (.aload_n 1, 1) := dk_43 (dk_at dksX20_acts_0 0 rfl rfl)
theorem dX20_acts_1 : decode cX20_acts 1 = .ok (.aload_n 0, 1) := dk_42 (dk_at dksX20_acts_0 1 rfl rfl)
theorem dX20_acts_2 : decode cX20_acts 2 = .ok (.getfield 7, 3) := dk_180 0 7 (dk_at dksX20_acts_0 2 rfl rfl)
theorem dX20_acts_5 : decode cX20_acts 5 = .ok (.iconst 1, 1) := dk_4 (dk_at dksX20_acts_0 5 rfl rfl)
theorem dX20_acts_6 : decode cX20_acts 6 = .ok (.if_icmp .ne 21, 3) := dk_160 0 21 (dk_at dksX20_acts_0 6 rfl rfl)
theorem dX20_acts_9 : decode cX20_acts 9 = .ok (.aload_n 1, 1) := dk_43 (dk_at dksX20_acts_0 9 rfl rfl)
theorem dX20_acts_10 : decode cX20_acts 10 = .ok (.getfield 19, 3) := dk_180 0 19 (dk_at dksX20_acts_0 10 rfl rfl)
theorem dX20_acts_13 : decode cX20_acts 13 = .ok (.aload_n 0, 1) := dk_42 (dk_at dksX20_acts_0 13 rfl rfl)
theorem dX20_acts_14 : decode cX20_acts 14 = .ok (.getfield 13, 3) := dk_180 0 13 (dk_at dksX20_acts_0 14 rfl rfl)
theorem dX20_acts_17 : decode cX20_acts 17 = .ok (.aload_n 0, 1) := dk_42 (dk_at dksX20_acts_0 17 rfl rfl)
theorem dX20_acts_18 : decode cX20_acts 18 = .ok (.getfield 16, 3) := dk_180 0 16 (dk_at dksX20_acts_0 18 rfl rfl)
theorem dX20_acts_21 : decode cX20_acts 21 = .ok (.invokevirtual 25, 3) := dk_182 0 25 (dk_at dksX20_acts_0 21 rfl rfl)
theorem dX20_acts_24 : decode cX20_acts 24 = .ok (.goto 40, 3) := dk_167 0 40 (dk_at dksX20_acts_1 0 rfl rfl)
theorem dX20_acts_27 : decode cX20_acts 27 = .ok (.aload_n 0, 1) := dk_42 (dk_at dksX20_acts_1 3 rfl rfl)
theorem dX20_acts_28 : decode cX20_acts 28 = .ok (.getfield 7, 3) := dk_180 0 7 (dk_at dksX20_acts_1 4 rfl rfl)
theorem dX20_acts_31 : decode cX20_acts 31 = .ok (.iconst 2, 1) := dk_5 (dk_at dksX20_acts_1 7 rfl rfl)
theorem dX20_acts_32 : decode cX20_acts 32 = .ok (.if_icmp .ne 17, 3) := dk_160 0 17 (dk_at dksX20_acts_1 8 rfl rfl)
theorem dX20_acts_35 : decode cX20_acts 35 = .ok (.aload_n 1, 1) := dk_43 (dk_at dksX20_acts_1 11 rfl rfl)
theorem dX20_acts_36 : decode cX20_acts 36 = .ok (.getfield 19, 3) := dk_180 0 19 (dk_at dksX20_acts_1 12 rfl rfl)
theorem dX20_acts_39 : decode cX20_acts 39 = .ok (.aload_n 0, 1) := dk_42 (dk_at dksX20_acts_1 15 rfl rfl)
theorem dX20_acts_40 : decode cX20_acts 40 = .ok (.getfield 16, 3) := dk_180 0 16 (dk_at dksX20_acts_1 16 rfl rfl)
theorem dX20_acts_43 : decode cX20_acts 43 = .ok (.invokevirtual 31, 3) := dk_182 0 31 (dk_at dksX20_acts_1 19 rfl rfl)
theorem dX20_acts_46 : decode cX20_acts 46 = .ok (.goto 18, 3) := dk_167 0 18 (dk_at dksX20_acts_2 0 rfl rfl)
theorem dX20_acts_49 : decode cX20_acts 49 = .ok (.aload_n 1, 1) := dk_43 (dk_at dksX20_acts_2 3 rfl rfl)
theorem dX20_acts_50 : decode cX20_acts 50 = .ok (.getfield 19, 3) := dk_180 0 19 (dk_at dksX20_acts_2 4 rfl rfl)
theorem dX20_acts_53 : decode cX20_acts 53 = .ok (.aload_n 0, 1) := dk_42 (dk_at dksX20_acts_2 7 rfl rfl)
theorem dX20_acts_54 : decode cX20_acts 54 = .ok (.getfield 13, 3) := dk_180 0 13 (dk_at dksX20_acts_2 8 rfl rfl)
theorem dX20_acts_57 : decode cX20_acts 57 = .ok (.aload_n 0, 1) := dk_42 (dk_at dksX20_acts_2 11 rfl rfl)
theorem dX20_acts_58 : decode cX20_acts 58 = .ok (.getfield 16, 3) := dk_180 0 16 (dk_at dksX20_acts_2 12 rfl rfl)
theorem dX20_acts_61 : decode cX20_acts 61 = .ok (.invokevirtual 35, 3) := dk_182 0 35 (dk_at dksX20_acts_2 15 rfl rfl)
theorem dX20_acts_64 : decode cX20_acts 64 = .ok (.invokevirtual 38, 3) := dk_182 0 38 (dk_at dksX20_acts_2 18 rfl rfl)
theorem dX20_acts_67 : decode cX20_acts 67 = .ok (.return_, 1) := dk_177 (dk_at dksX20_acts_2 21 rfl rfl)
theorem q115 : (Jvm.Cond.initialized "GrowingDoor$Pair") ∈ lw_all := lw_g (lw_at lw_m1 30 rfl) rfl
theorem q966 : (Jvm.Cond.instantiable "GrowingDoor$Pair" (3 : Nat)) ∈ lw_all := lw_g (lw_at lw_m4 161 rfl) rfl
theorem q968 : (Jvm.Cond.instanceMethod ({ cls := "GrowingDoor$Pair", name := "<init>", desc := "(III)V" } : Jvm.MethodName)) ∈ lw_all := lw_g (lw_at lw_m4 163 rfl) rfl
theorem q969 : (Jvm.Cond.code ({ cls := "GrowingDoor$Pair", name := "<init>", desc := "(III)V" } : Jvm.MethodName) prog_10_method_1_code (4 : Nat) (Option.none : Option Jvm.ClassFile.FieldType)) ∈ lw_all := lw_g (lw_at lw_m4 164 rfl) rfl
theorem q970 : (Jvm.Cond.methodLinkNest "GrowingDoor$Pair" (1 : Nat) ({ cls := "GrowingDoor$Step", name := "<init>", desc := "()V" } : Jvm.MethodName) "GrowingDoor") ∈ lw_tbl := lw_at lw_m4 165 rfl
theorem q971 : (Jvm.Cond.fieldLink "GrowingDoor$Pair" (7 : Nat) "GrowingDoor$Pair" "what" "I") ∈ lw_all := lw_g (lw_at lw_m4 166 rfl) rfl
theorem q972 : (Jvm.Cond.fieldLink "GrowingDoor$Pair" (13 : Nat) "GrowingDoor$Pair" "one" "I") ∈ lw_all := lw_g (lw_at lw_m4 167 rfl) rfl
theorem q973 : (Jvm.Cond.fieldLink "GrowingDoor$Pair" (16 : Nat) "GrowingDoor$Pair" "n" "I") ∈ lw_all := lw_g (lw_at lw_m4 168 rfl) rfl
theorem q974 : (Jvm.Cond.laysFinal "GrowingDoor$Pair" "GrowingDoor$Pair" "what" "I") ∈ lw_all := lw_g (lw_at lw_m4 169 rfl) rfl
theorem q975 : (Jvm.Cond.soleField "GrowingDoor$Pair" "what") ∈ lw_all := lw_g (lw_at lw_m4 170 rfl) rfl
theorem q976 : (Jvm.Cond.laysFinal "GrowingDoor$Pair" "GrowingDoor$Pair" "one" "I") ∈ lw_all := lw_g (lw_at lw_m4 171 rfl) rfl
theorem q977 : (Jvm.Cond.soleField "GrowingDoor$Pair" "one") ∈ lw_all := lw_g (lw_at lw_m4 172 rfl) rfl
theorem q978 : (Jvm.Cond.laysFinal "GrowingDoor$Pair" "GrowingDoor$Pair" "n" "I") ∈ lw_all := lw_g (lw_at lw_m4 173 rfl) rfl
theorem q979 : (Jvm.Cond.soleField "GrowingDoor$Pair" "n") ∈ lw_all := lw_g (lw_at lw_m4 174 rfl) rfl
theorem q980 : (Jvm.Cond.superclass "GrowingDoor$Pair" "GrowingDoor$Step") ∈ lw_all := lw_g (lw_at lw_m4 175 rfl) rfl
theorem q1009 : (Jvm.Cond.fieldLinkNest "GrowingDoor$Pair" (19 : Nat) "GrowingDoor$Run" "state" "LGrowingDoor$State;" "GrowingDoor") ∈ lw_tbl := lw_at lw_m4 204 rfl
theorem q1140 : (Jvm.Cond.selects "GrowingDoor$Pair" ({ cls := "GrowingDoor$Step", name := "acts", desc := "(LGrowingDoor$Run;)V" } : Jvm.MethodName) ({ cls := "GrowingDoor$Pair", name := "acts", desc := "(LGrowingDoor$Run;)V" } : Jvm.MethodName)) ∈ lw_all := lw_g (lw_at lw_m5 95 rfl) rfl
theorem q1141 : (Jvm.Cond.instanceMethod ({ cls := "GrowingDoor$Pair", name := "acts", desc := "(LGrowingDoor$Run;)V" } : Jvm.MethodName)) ∈ lw_all := lw_g (lw_at lw_m5 96 rfl) rfl
theorem q1142 : (Jvm.Cond.code ({ cls := "GrowingDoor$Pair", name := "acts", desc := "(LGrowingDoor$Run;)V" } : Jvm.MethodName) prog_10_method_2_code (2 : Nat) (Option.none : Option Jvm.ClassFile.FieldType)) ∈ lw_all := lw_g (lw_at lw_m5 97 rfl) rfl
theorem q1143 : (Jvm.Cond.methodLink "GrowingDoor$Pair" (25 : Nat) ({ cls := "GrowingDoor$State", name := "eats", desc := "(II)Z" } : Jvm.MethodName)) ∈ lw_all := lw_g (lw_at lw_m5 98 rfl) rfl
theorem q1147 : (Jvm.Cond.methodLink "GrowingDoor$Pair" (31 : Nat) ({ cls := "GrowingDoor$State", name := "oils", desc := "(I)Z" } : Jvm.MethodName)) ∈ lw_all := lw_g (lw_at lw_m5 102 rfl) rfl
theorem q1151 : (Jvm.Cond.methodLink "GrowingDoor$Pair" (35 : Nat) ({ cls := "GrowingDoor$State", name := "planes", desc := "(II)Z" } : Jvm.MethodName)) ∈ lw_all := lw_g (lw_at lw_m5 106 rfl) rfl
theorem q1155 : (Jvm.Cond.methodLink "GrowingDoor$Pair" (38 : Nat) ({ cls := "GrowingDoor$Run", name := "tells", desc := "(Z)V" } : Jvm.MethodName)) ∈ lw_all := lw_g (lw_at lw_m5 110 rfl) rfl
theorem q2073 : (Jvm.Cond.castable "GrowingDoor$Pair" "java/lang/Object") ∈ lw_tbl := lw_at lw_m9 68 rfl
theorem q2081 : (Jvm.Cond.castable "GrowingDoor$Pair" "GrowingDoor$Step") ∈ lw_tbl := lw_at lw_m9 76 rfl
theorem in_X20 : ∀ w ∈ wsX200, w ∈ lw_all := lw_in wsX200 [974, 976, 978] (by decide +kernel) (by decide +kernel)
/-! GrowingDoor$Month -/
set_option maxRecDepth 100000
def RX21 : String := "GrowingDoor$Month"
abbrev cX21_init : ByteArray := prog_8_method_1_code
def yX21_init : MethodName := ⟨RX21, "<init>", "()V"⟩
theorem dX21_init_0 : decode cX21_init 0 = .ok (.aload_n 0, 1) := by decide +kernel
theorem dX21_init_1 : decode cX21_init 1 = .ok (.invokespecial 1, 3) := by decide +kernel
theorem dX21_init_4 : decode cX21_init 4 = .ok (.return_, 1) := by decide +kernel
abbrev cX21_acts : ByteArray := prog_8_method_2_code
def yX21_acts : MethodName := ⟨RX21, "acts", "(LGrowingDoor$Run;)V"⟩
def dkwX21_acts_0 : List UInt8 := [43, 43, 180, 0, 7, 182, 0, 13, 182, 0, 19, 177]
abbrev dktX21_acts_0 : List UInt8 := dkwX21_acts_0 ++ []
theorem dksX21_acts_0 : cX21_acts.data.toList.drop 0 = dktX21_acts_0 := by decide +kernel
theorem dX21_acts_0 : decode cX21_acts 0 = .ok (.aload_n 1, 1) := dk_43 (dk_at dksX21_acts_0 0 rfl rfl)
theorem dX21_acts_1 : decode cX21_acts 1 = .ok (.aload_n 1, 1) := dk_43 (dk_at dksX21_acts_0 1 rfl rfl)
theorem dX21_acts_2 : decode cX21_acts 2 = .ok (.getfield 7, 3) := dk_180 0 7 (dk_at dksX21_acts_0 2 rfl rfl)
theorem dX21_acts_5 : decode cX21_acts 5 = .ok (.invokevirtual 13, 3) := dk_182 0 13 (dk_at dksX21_acts_0 5 rfl rfl)
theorem dX21_acts_8 : decode cX21_acts 8 = .ok (.invokevirtual 19, 3) := dk_182 0 19 (dk_at dksX21_acts_0 8 rfl rfl)
theorem dX21_acts_11 : decode cX21_acts 11 = .ok (.return_, 1) := dk_177 (dk_at dksX21_acts_0 11 rfl rfl)
theorem q116 : (Jvm.Cond.initialized "GrowingDoor$Month") ∈ lw_all := lw_g (lw_at lw_m1 31 rfl) rfl
theorem q982 : (Jvm.Cond.instantiable "GrowingDoor$Month" (0 : Nat)) ∈ lw_all := lw_g (lw_at lw_m4 177 rfl) rfl
theorem q984 : (Jvm.Cond.instanceMethod ({ cls := "GrowingDoor$Month", name := "<init>", desc := "()V" } : Jvm.MethodName)) ∈ lw_all := lw_g (lw_at lw_m4 179 rfl) rfl
theorem q985 : (Jvm.Cond.code ({ cls := "GrowingDoor$Month", name := "<init>", desc := "()V" } : Jvm.MethodName) prog_8_method_1_code (1 : Nat) (Option.none : Option Jvm.ClassFile.FieldType)) ∈ lw_all := lw_g (lw_at lw_m4 180 rfl) rfl
theorem q986 : (Jvm.Cond.methodLinkNest "GrowingDoor$Month" (1 : Nat) ({ cls := "GrowingDoor$Step", name := "<init>", desc := "()V" } : Jvm.MethodName) "GrowingDoor") ∈ lw_tbl := lw_at lw_m4 181 rfl
theorem q987 : (Jvm.Cond.superclass "GrowingDoor$Month" "GrowingDoor$Step") ∈ lw_all := lw_g (lw_at lw_m4 182 rfl) rfl
theorem q1007 : (Jvm.Cond.fieldLinkNest "GrowingDoor$Month" (7 : Nat) "GrowingDoor$Run" "state" "LGrowingDoor$State;" "GrowingDoor") ∈ lw_tbl := lw_at lw_m4 202 rfl
theorem q1039 : (Jvm.Cond.selects "GrowingDoor$Month" ({ cls := "GrowingDoor$Step", name := "acts", desc := "(LGrowingDoor$Run;)V" } : Jvm.MethodName) ({ cls := "GrowingDoor$Month", name := "acts", desc := "(LGrowingDoor$Run;)V" } : Jvm.MethodName)) ∈ lw_all := lw_g (lw_at lw_m4 234 rfl) rfl
theorem q1040 : (Jvm.Cond.instanceMethod ({ cls := "GrowingDoor$Month", name := "acts", desc := "(LGrowingDoor$Run;)V" } : Jvm.MethodName)) ∈ lw_all := lw_g (lw_at lw_m4 235 rfl) rfl
theorem q1041 : (Jvm.Cond.code ({ cls := "GrowingDoor$Month", name := "acts", desc := "(LGrowingDoor$Run;)V" } : Jvm.MethodName) prog_8_method_2_code (2 : Nat) (Option.none : Option Jvm.ClassFile.FieldType)) ∈ lw_all := lw_g (lw_at lw_m4 236 rfl) rfl
theorem q1042 : (Jvm.Cond.methodLink "GrowingDoor$Month" (13 : Nat) ({ cls := "GrowingDoor$State", name := "passes", desc := "()Z" } : Jvm.MethodName)) ∈ lw_all := lw_g (lw_at lw_m4 237 rfl) rfl
theorem q1116 : (Jvm.Cond.methodLink "GrowingDoor$Month" (19 : Nat) ({ cls := "GrowingDoor$Run", name := "tells", desc := "(Z)V" } : Jvm.MethodName)) ∈ lw_all := lw_g (lw_at lw_m5 71 rfl) rfl
theorem q2074 : (Jvm.Cond.castable "GrowingDoor$Month" "java/lang/Object") ∈ lw_tbl := lw_at lw_m9 69 rfl
theorem q2082 : (Jvm.Cond.castable "GrowingDoor$Month" "GrowingDoor$Step") ∈ lw_tbl := lw_at lw_m9 77 rfl
/-! GrowingDoor$Run -/
set_option maxRecDepth 100000
def RX22 : String := "GrowingDoor$Run"
def TX22 : u_T := fun k => match k with
  | 0 => ("GrowingDoor$Run", "state", "LGrowingDoor$State;", true)
  | 1 => ("GrowingDoor$Run", "begun", "I", false)
  | 2 => ("GrowingDoor$Run", "done", "I", false)
  | _ => ("GrowingDoor$Run", "refused", "I", false)
def tyX22 : Nat → FieldType := fun k => match k with
  | 0 => .object "GrowingDoor$State"
  | 1 => .int
  | 2 => .int
  | _ => .int
abbrev wsX220 : List Cond := u_ws RX22 TX22 4
theorem nmX22 : ∀ a, a < 4 → ∀ b, b < 4 → a ≠ b → (TX22 a).2.1 ≠ (TX22 b).2.1 := by decide +kernel
theorem tyX22_ok : ∀ k, k < 4 → parseFieldDescriptor (TX22 k).2.2.1 = some (tyX22 k) := by decide +kernel
abbrev cX22_init : ByteArray := prog_13_method_1_code
def yX22_init : MethodName := ⟨RX22, "<init>", "(LGrowingDoor$State;)V"⟩
def dkwX22_init_0 : List UInt8 := [42, 183, 0, 3, 42, 43, 181, 0, 9, 177]
abbrev dktX22_init_0 : List UInt8 := dkwX22_init_0 ++ []
theorem dksX22_init_0 : cX22_init.data.toList.drop 0 = dktX22_init_0 := by decide +kernel
theorem dX22_init_0 : decode cX22_init 0 = .ok (.aload_n 0, 1) := dk_42 (dk_at dksX22_init_0 0 rfl rfl)
theorem dX22_init_1 : decode cX22_init 1 = .ok (.invokespecial 3, 3) := dk_183 0 3 (dk_at dksX22_init_0 1 rfl rfl)
theorem dX22_init_4 : decode cX22_init 4 = .ok (.aload_n 0, 1) := dk_42 (dk_at dksX22_init_0 4 rfl rfl)
theorem dX22_init_5 : decode cX22_init 5 = .ok (.aload_n 1, 1) := dk_43 (dk_at dksX22_init_0 5 rfl rfl)
theorem dX22_init_6 : decode cX22_init 6 = .ok (.putfield 9, 3) := dk_181 0 9 (dk_at dksX22_init_0 6 rfl rfl)
theorem dX22_init_9 : decode cX22_init 9 = .ok (.return_, 1) := dk_177 (dk_at dksX22_init_0 9 rfl rfl)
abbrev cX22_mayBegin : ByteArray := prog_13_method_2_code
def yX22_mayBegin : MethodName := ⟨RX22, "mayBegin", "()Z"⟩
def dkwX22_mayBegin_0 : List UInt8 := [42, 180, 0, 15, 17, 0, 200, 162, 0, 7, 4, 167, 0, 4, 3, 172]
abbrev dktX22_mayBegin_0 : List UInt8 := dkwX22_mayBegin_0 ++ []
theorem dksX22_mayBegin_0 : cX22_mayBegin.data.toList.drop 0 = dktX22_mayBegin_0 := by decide +kernel
theorem dX22_mayBegin_0 : decode cX22_mayBegin 0 = .ok (.aload_n 0, 1) := dk_42 (dk_at dksX22_mayBegin_0 0 rfl rfl)
theorem dX22_mayBegin_1 : decode cX22_mayBegin 1 = .ok (.getfield 15, 3) := dk_180 0 15 (dk_at dksX22_mayBegin_0 1 rfl rfl)
theorem dX22_mayBegin_4 : decode cX22_mayBegin 4 = .ok (.sipush 200, 3) := dk_17 0 200 (dk_at dksX22_mayBegin_0 4 rfl rfl)
theorem dX22_mayBegin_7 : decode cX22_mayBegin 7 = .ok (.if_icmp .ge 7, 3) := dk_162 0 7 (dk_at dksX22_mayBegin_0 7 rfl rfl)
theorem dX22_mayBegin_10 : decode cX22_mayBegin 10 = .ok (.iconst 1, 1) := dk_4 (dk_at dksX22_mayBegin_0 10 rfl rfl)
theorem dX22_mayBegin_11 : decode cX22_mayBegin 11 = .ok (.goto 4, 3) := dk_167 0 4 (dk_at dksX22_mayBegin_0 11 rfl rfl)
theorem dX22_mayBegin_14 : decode cX22_mayBegin 14 = .ok (.iconst 0, 1) := dk_3 (dk_at dksX22_mayBegin_0 14 rfl rfl)
theorem dX22_mayBegin_15 : decode cX22_mayBegin 15 = .ok (.ireturn, 1) := dk_172 (dk_at dksX22_mayBegin_0 15 rfl rfl)
abbrev cX22_begins : ByteArray := prog_13_method_3_code
def yX22_begins : MethodName := ⟨RX22, "begins", "(LGrowingDoor$Step;)V"⟩
def dkwX22_begins_0 : List UInt8 := [42, 89, 180, 0, 15, 4, 96, 181, 0, 15, 43, 42, 182, 0, 19, 177]
abbrev dktX22_begins_0 : List UInt8 := dkwX22_begins_0 ++ []
theorem dksX22_begins_0 : cX22_begins.data.toList.drop 0 = dktX22_begins_0 := by decide +kernel
theorem dX22_begins_0 : decode cX22_begins 0 = .ok (.aload_n 0, 1) := dk_42 (dk_at dksX22_begins_0 0 rfl rfl)
theorem dX22_begins_1 : decode cX22_begins 1 = .ok (.dup, 1) := dk_89 (dk_at dksX22_begins_0 1 rfl rfl)
theorem dX22_begins_2 : decode cX22_begins 2 = .ok (.getfield 15, 3) := dk_180 0 15 (dk_at dksX22_begins_0 2 rfl rfl)
theorem dX22_begins_5 : decode cX22_begins 5 = .ok (.iconst 1, 1) := dk_4 (dk_at dksX22_begins_0 5 rfl rfl)
theorem dX22_begins_6 : decode cX22_begins 6 = .ok (.iadd, 1) := dk_96 (dk_at dksX22_begins_0 6 rfl rfl)
theorem dX22_begins_7 : decode cX22_begins 7 = .ok (.putfield 15, 3) := dk_181 0 15 (dk_at dksX22_begins_0 7 rfl rfl)
theorem dX22_begins_10 : decode cX22_begins 10 = .ok (.aload_n 1, 1) := dk_43 (dk_at dksX22_begins_0 10 rfl rfl)
theorem dX22_begins_11 : decode cX22_begins 11 = .ok (.aload_n 0, 1) := dk_42 (dk_at dksX22_begins_0 11 rfl rfl)
theorem dX22_begins_12 : decode cX22_begins 12 = .ok (.invokevirtual 19, 3) := dk_182 0 19 (dk_at dksX22_begins_0 12 rfl rfl)
theorem dX22_begins_15 : decode cX22_begins 15 = .ok (.return_, 1) := dk_177 (dk_at dksX22_begins_0 15 rfl rfl)
abbrev cX22_tells : ByteArray := prog_13_method_4_code
def yX22_tells : MethodName := ⟨RX22, "tells", "(Z)V"⟩
def dkwX22_tells_1 : List UInt8 := [181, 0, 28, 177]
abbrev dktX22_tells_1 : List UInt8 := dkwX22_tells_1 ++ []
def dkwX22_tells_0 : List UInt8 := [27, 153, 0, 16, 42, 89, 180, 0, 25, 4, 96, 181, 0, 25, 167, 0, 13, 42, 89, 180, 0, 28, 4, 96]
abbrev dktX22_tells_0 : List UInt8 := dkwX22_tells_0 ++ dktX22_tells_1
theorem dksX22_tells_0 : cX22_tells.data.toList.drop 0 = dktX22_tells_0 := by decide +kernel
theorem dksX22_tells_1 : cX22_tells.data.toList.drop 24 = dktX22_tells_1 := dk_seg dksX22_tells_0 24 rfl rfl
theorem dX22_tells_0 : decode cX22_tells 0 = .ok (.iload_n 1, 1) := dk_27 (dk_at dksX22_tells_0 0 rfl rfl)
theorem dX22_tells_1 : decode cX22_tells 1 = .ok (.ifCond .eq 16, 3) := dk_153 0 16 (dk_at dksX22_tells_0 1 rfl rfl)
theorem dX22_tells_4 : decode cX22_tells 4 = .ok (.aload_n 0, 1) := dk_42 (dk_at dksX22_tells_0 4 rfl rfl)
theorem dX22_tells_5 : decode cX22_tells 5 = .ok (.dup, 1) := dk_89 (dk_at dksX22_tells_0 5 rfl rfl)
theorem dX22_tells_6 : decode cX22_tells 6 = .ok (.getfield 25, 3) := dk_180 0 25 (dk_at dksX22_tells_0 6 rfl rfl)
theorem dX22_tells_9 : decode cX22_tells 9 = .ok (.iconst 1, 1) := dk_4 (dk_at dksX22_tells_0 9 rfl rfl)
theorem dX22_tells_10 : decode cX22_tells 10 = .ok (.iadd, 1) := dk_96 (dk_at dksX22_tells_0 10 rfl rfl)
theorem dX22_tells_11 : decode cX22_tells 11 = .ok (.putfield 25, 3) := dk_181 0 25 (dk_at dksX22_tells_0 11 rfl rfl)
theorem dX22_tells_14 : decode cX22_tells 14 = .ok (.goto 13, 3) := dk_167 0 13 (dk_at dksX22_tells_0 14 rfl rfl)
theorem dX22_tells_17 : decode cX22_tells 17 = .ok (.aload_n 0, 1) := dk_42 (dk_at dksX22_tells_0 17 rfl rfl)
theorem dX22_tells_18 : decode cX22_tells 18 = .ok (.dup, 1) := dk_89 (dk_at dksX22_tells_0 18 rfl rfl)
theorem dX22_tells_19 : decode cX22_tells 19 = .ok (.getfield 28, 3) := dk_180 0 28 (dk_at dksX22_tells_0 19 rfl rfl)
theorem dX22_tells_22 : decode cX22_tells 22 = .ok (.iconst 1, 1) := dk_4 (dk_at dksX22_tells_0 22 rfl rfl)
theorem dX22_tells_23 : decode cX22_tells 23 = .ok (.iadd, 1) := dk_96 (dk_at dksX22_tells_0 23 rfl rfl)
theorem dX22_tells_24 : decode cX22_tells 24 = .ok (.putfield 28, 3) := dk_181 0 28 (dk_at dksX22_tells_1 0 rfl rfl)
theorem dX22_tells_27 : decode cX22_tells 27 = .ok (.return_, 1) := dk_177 (dk_at dksX22_tells_1 3 rfl rfl)
theorem q117 : (Jvm.Cond.initialized "GrowingDoor$Run") ∈ lw_all := lw_g (lw_at lw_m1 32 rfl) rfl
theorem q1000 : (Jvm.Cond.instantiable "GrowingDoor$Run" (4 : Nat)) ∈ lw_all := lw_g (lw_at lw_m4 195 rfl) rfl
theorem q1003 : (Jvm.Cond.instanceMethod ({ cls := "GrowingDoor$Run", name := "<init>", desc := "(LGrowingDoor$State;)V" } : Jvm.MethodName)) ∈ lw_all := lw_g (lw_at lw_m4 198 rfl) rfl
theorem q1004 : (Jvm.Cond.code ({ cls := "GrowingDoor$Run", name := "<init>", desc := "(LGrowingDoor$State;)V" } : Jvm.MethodName) prog_13_method_1_code (2 : Nat) (Option.none : Option Jvm.ClassFile.FieldType)) ∈ lw_all := lw_g (lw_at lw_m4 199 rfl) rfl
theorem q1005 : (Jvm.Cond.methodLink "GrowingDoor$Run" (3 : Nat) ({ cls := "java/lang/Object", name := "<init>", desc := "()V" } : Jvm.MethodName)) ∈ lw_all := lw_g (lw_at lw_m4 200 rfl) rfl
theorem q1006 : (Jvm.Cond.fieldLink "GrowingDoor$Run" (9 : Nat) "GrowingDoor$Run" "state" "LGrowingDoor$State;") ∈ lw_all := lw_g (lw_at lw_m4 201 rfl) rfl
theorem q1010 : (Jvm.Cond.fieldLink "GrowingDoor$Run" (15 : Nat) "GrowingDoor$Run" "begun" "I") ∈ lw_all := lw_g (lw_at lw_m4 205 rfl) rfl
theorem q1011 : (Jvm.Cond.fieldLink "GrowingDoor$Run" (25 : Nat) "GrowingDoor$Run" "done" "I") ∈ lw_all := lw_g (lw_at lw_m4 206 rfl) rfl
theorem q1013 : (Jvm.Cond.fieldLink "GrowingDoor$Run" (28 : Nat) "GrowingDoor$Run" "refused" "I") ∈ lw_all := lw_g (lw_at lw_m4 208 rfl) rfl
theorem q1015 : (Jvm.Cond.laysFinal "GrowingDoor$Run" "GrowingDoor$Run" "state" "LGrowingDoor$State;") ∈ lw_all := lw_g (lw_at lw_m4 210 rfl) rfl
theorem q1016 : (Jvm.Cond.soleField "GrowingDoor$Run" "state") ∈ lw_all := lw_g (lw_at lw_m4 211 rfl) rfl
theorem q1017 : (Jvm.Cond.lays "GrowingDoor$Run" "GrowingDoor$Run" "begun" "I") ∈ lw_all := lw_g (lw_at lw_m4 212 rfl) rfl
theorem q1018 : (Jvm.Cond.soleField "GrowingDoor$Run" "begun") ∈ lw_all := lw_g (lw_at lw_m4 213 rfl) rfl
theorem q1019 : (Jvm.Cond.lays "GrowingDoor$Run" "GrowingDoor$Run" "done" "I") ∈ lw_all := lw_g (lw_at lw_m4 214 rfl) rfl
theorem q1020 : (Jvm.Cond.soleField "GrowingDoor$Run" "done") ∈ lw_all := lw_g (lw_at lw_m4 215 rfl) rfl
theorem q1021 : (Jvm.Cond.lays "GrowingDoor$Run" "GrowingDoor$Run" "refused" "I") ∈ lw_all := lw_g (lw_at lw_m4 216 rfl) rfl
theorem q1022 : (Jvm.Cond.soleField "GrowingDoor$Run" "refused") ∈ lw_all := lw_g (lw_at lw_m4 217 rfl) rfl
theorem q1023 : (Jvm.Cond.superclass "GrowingDoor$Run" "java/lang/Object") ∈ lw_all := lw_g (lw_at lw_m4 218 rfl) rfl
theorem q1029 : (Jvm.Cond.instanceMethod ({ cls := "GrowingDoor$Run", name := "mayBegin", desc := "()Z" } : Jvm.MethodName)) ∈ lw_all := lw_g (lw_at lw_m4 224 rfl) rfl
theorem q1030 : (Jvm.Cond.selects "GrowingDoor$Run" ({ cls := "GrowingDoor$Run", name := "mayBegin", desc := "()Z" } : Jvm.MethodName) ({ cls := "GrowingDoor$Run", name := "mayBegin", desc := "()Z" } : Jvm.MethodName)) ∈ lw_all := lw_g (lw_at lw_m4 225 rfl) rfl
theorem q1031 : (Jvm.Cond.code ({ cls := "GrowingDoor$Run", name := "mayBegin", desc := "()Z" } : Jvm.MethodName) prog_13_method_2_code (1 : Nat) (Option.some Jvm.ClassFile.FieldType.boolean)) ∈ lw_all := lw_g (lw_at lw_m4 226 rfl) rfl
theorem q1033 : (Jvm.Cond.instanceMethod ({ cls := "GrowingDoor$Run", name := "begins", desc := "(LGrowingDoor$Step;)V" } : Jvm.MethodName)) ∈ lw_all := lw_g (lw_at lw_m4 228 rfl) rfl
theorem q1034 : (Jvm.Cond.selects "GrowingDoor$Run" ({ cls := "GrowingDoor$Run", name := "begins", desc := "(LGrowingDoor$Step;)V" } : Jvm.MethodName) ({ cls := "GrowingDoor$Run", name := "begins", desc := "(LGrowingDoor$Step;)V" } : Jvm.MethodName)) ∈ lw_all := lw_g (lw_at lw_m4 229 rfl) rfl
theorem q1035 : (Jvm.Cond.code ({ cls := "GrowingDoor$Run", name := "begins", desc := "(LGrowingDoor$Step;)V" } : Jvm.MethodName) prog_13_method_3_code (2 : Nat) (Option.none : Option Jvm.ClassFile.FieldType)) ∈ lw_all := lw_g (lw_at lw_m4 230 rfl) rfl
theorem q1036 : (Jvm.Cond.methodLink "GrowingDoor$Run" (19 : Nat) ({ cls := "GrowingDoor$Step", name := "acts", desc := "(LGrowingDoor$Run;)V" } : Jvm.MethodName)) ∈ lw_all := lw_g (lw_at lw_m4 231 rfl) rfl
theorem q1117 : (Jvm.Cond.instanceMethod ({ cls := "GrowingDoor$Run", name := "tells", desc := "(Z)V" } : Jvm.MethodName)) ∈ lw_all := lw_g (lw_at lw_m5 72 rfl) rfl
theorem q1118 : (Jvm.Cond.selects "GrowingDoor$Run" ({ cls := "GrowingDoor$Run", name := "tells", desc := "(Z)V" } : Jvm.MethodName) ({ cls := "GrowingDoor$Run", name := "tells", desc := "(Z)V" } : Jvm.MethodName)) ∈ lw_all := lw_g (lw_at lw_m5 73 rfl) rfl
theorem q1119 : (Jvm.Cond.code ({ cls := "GrowingDoor$Run", name := "tells", desc := "(Z)V" } : Jvm.MethodName) prog_13_method_4_code (2 : Nat) (Option.none : Option Jvm.ClassFile.FieldType)) ∈ lw_all := lw_g (lw_at lw_m5 74 rfl) rfl
theorem q2075 : (Jvm.Cond.castable "GrowingDoor$Run" "java/lang/Object") ∈ lw_tbl := lw_at lw_m9 70 rfl
theorem in_X22 : ∀ w ∈ wsX220, w ∈ lw_all := lw_in wsX220 [1015, 1017, 1019, 1021] (by decide +kernel) (by decide +kernel)

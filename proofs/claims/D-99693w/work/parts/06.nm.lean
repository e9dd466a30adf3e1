/-! GrowingDoorModel -/
set_option maxRecDepth 100000
def RX8 : String := "GrowingDoorModel"
def TX8 : u_T := fun k => match k with
  | 0 => ("GrowingDoorModel", "thrown", "I", false)
  | 1 => ("GrowingDoorModel", "refused", "[I", true)
  | 2 => ("GrowingDoorModel", "taped", "I", false)
  | 3 => ("GrowingDoorModel", "size", "I", false)
  | 4 => ("GrowingDoorModel", "at", "I", false)
  | 5 => ("GrowingDoorModel", "bad", "I", false)
  | 6 => ("GrowingDoorModel", "badKind", "I", false)
  | 7 => ("GrowingDoorModel", "opens", "I", false)
  | 8 => ("GrowingDoorModel", "faultAt", "I", false)
  | 9 => ("GrowingDoorModel", "tape", "[I", true)
  | 10 => ("GrowingDoorModel", "newBoard", "[I", true)
  | 11 => ("GrowingDoorModel", "newBoy", "[I", true)
  | 12 => ("GrowingDoorModel", "newKin", "[I", true)
  | 13 => ("GrowingDoorModel", "newRain", "[I", true)
  | 14 => ("GrowingDoorModel", "board", "[I", true)
  | 15 => ("GrowingDoorModel", "boy", "[I", true)
  | 16 => ("GrowingDoorModel", "kin", "[I", true)
  | 17 => ("GrowingDoorModel", "rain", "[I", true)
  | 18 => ("GrowingDoorModel", "newBoards", "I", false)
  | 19 => ("GrowingDoorModel", "newBoys", "I", false)
  | 20 => ("GrowingDoorModel", "boards", "I", false)
  | 21 => ("GrowingDoorModel", "boys", "I", false)
  | 22 => ("GrowingDoorModel", "newCode", "[I", true)
  | 23 => ("GrowingDoorModel", "newOf", "[I", true)
  | 24 => ("GrowingDoorModel", "code", "[I", true)
  | 25 => ("GrowingDoorModel", "ofCode", "[I", true)
  | 26 => ("GrowingDoorModel", "stack", "[I", true)
  | 27 => ("GrowingDoorModel", "newCodes", "I", false)
  | 28 => ("GrowingDoorModel", "codes", "I", false)
  | 29 => ("GrowingDoorModel", "facts", "[I", true)
  | 30 => ("GrowingDoorModel", "newStep", "[I", true)
  | 31 => ("GrowingDoorModel", "step", "[I", true)
  | 32 => ("GrowingDoorModel", "newSteps", "I", false)
  | 33 => ("GrowingDoorModel", "works", "I", false)
  | 34 => ("GrowingDoorModel", "refusedSteps", "I", false)
  | 35 => ("GrowingDoorModel", "begun", "I", false)
  | 36 => ("GrowingDoorModel", "done", "I", false)
  | 37 => ("GrowingDoorModel", "refusedNow", "I", false)
  | 38 => ("GrowingDoorModel", "now", "[I", true)
  | 39 => ("GrowingDoorModel", "s", "[I", true)
  | 40 => ("GrowingDoorModel", "past", "[I", true)
  | 41 => ("GrowingDoorModel", "more", "[I", true)
  | 42 => ("GrowingDoorModel", "rainAll", "I", false)
  | 43 => ("GrowingDoorModel", "newBook", "[I", true)
  | 44 => ("GrowingDoorModel", "book", "[I", true)
  | 45 => ("GrowingDoorModel", "books", "I", false)
  | 46 => ("GrowingDoorModel", "apartOf", "[I", true)
  | 47 => ("GrowingDoorModel", "mateOf", "[I", true)
  | 48 => ("GrowingDoorModel", "rungsOf", "[I", true)
  | 49 => ("GrowingDoorModel", "highAt", "[I", true)
  | 50 => ("GrowingDoorModel", "isPair", "[Z", true)
  | 51 => ("GrowingDoorModel", "leftBy", "[I", true)
  | 52 => ("GrowingDoorModel", "streak", "[J", true)
  | 53 => ("GrowingDoorModel", "seedNow", "I", false)
  | 54 => ("GrowingDoorModel", "cutMany", "I", false)
  | 55 => ("GrowingDoorModel", "image", "[I", true)
  | _ => ("GrowingDoorModel", "images", "I", false)
def tyX8 : Nat → FieldType := fun k => match k with
  | 0 => .int
  | 1 => .array .int
  | 2 => .int
  | 3 => .int
  | 4 => .int
  | 5 => .int
  | 6 => .int
  | 7 => .int
  | 8 => .int
  | 9 => .array .int
  | 10 => .array .int
  | 11 => .array .int
  | 12 => .array .int
  | 13 => .array .int
  | 14 => .array .int
  | 15 => .array .int
  | 16 => .array .int
  | 17 => .array .int
  | 18 => .int
  | 19 => .int
  | 20 => .int
  | 21 => .int
  | 22 => .array .int
  | 23 => .array .int
  | 24 => .array .int
  | 25 => .array .int
  | 26 => .array .int
  | 27 => .int
  | 28 => .int
  | 29 => .array .int
  | 30 => .array .int
  | 31 => .array .int
  | 32 => .int
  | 33 => .int
  | 34 => .int
  | 35 => .int
  | 36 => .int
  | 37 => .int
  | 38 => .array .int
  | 39 => .array .int
  | 40 => .array .int
  | 41 => .array .int
  | 42 => .int
  | 43 => .array .int
  | 44 => .array .int
  | 45 => .int
  | 46 => .array .int
  | 47 => .array .int
  | 48 => .array .int
  | 49 => .array .int
  | 50 => .array .boolean
  | 51 => .array .int
  | 52 => .array .long
  | 53 => .int
  | 54 => .int
  | 55 => .array .int
  | _ => .int
abbrev wsX80 : List Cond := u_ws RX8 TX8 57
set_option maxRecDepth 100000 in
theorem nmX8 : ∀ a, a < 57 → ∀ b, b < 57 → a ≠ b → (TX8 a).2.1 ≠ (TX8 b).2.1 := by decide +kernel
set_option maxRecDepth 100000 in
theorem tyX8_ok : ∀ k, k < 57 → parseFieldDescriptor (TX8 k).2.2.1 = some (tyX8 k) := by decide +kernel
abbrev cX8_thrown : ByteArray := prog_24_method_1_code
def yX8_thrown : MethodName := ⟨RX8, "thrown", "()I"⟩
theorem dX8_thrown_0 : decode cX8_thrown 0 = .ok (.aload_n 0, 1) := by decide +kernel
theorem dX8_thrown_1 : decode cX8_thrown 1 = .ok (.getfield 3, 3) := by decide +kernel
theorem dX8_thrown_4 : decode cX8_thrown 4 = .ok (.ireturn, 1) := by decide +kernel
abbrev cX8_init : ByteArray := prog_24_method_4_code
def yX8_init : MethodName := ⟨RX8, "<init>", "()V"⟩
def dkwX8_init_12 : List UInt8 := [181, 0, 115, 42, 182, 0, 118, 42, 182, 0, 121, 177]
abbrev dktX8_init_12 : List UInt8 := dkwX8_init_12 ++ []
def dkwX8_init_11 : List UInt8 := [42, 17, 3, 232, 188, 10, 181, 0, 108, 42, 16, 14, 188, 11, 181, 0, 111, 42, 17, 9, 249, 188, 10]
abbrev dktX8_init_11 : List UInt8 := dkwX8_init_11 ++ dktX8_init_12
def dkwX8_init_10 : List UInt8 := [16, 7, 188, 10, 181, 0, 98, 42, 17, 5, 20, 188, 10, 181, 0, 101, 42, 16, 100, 188, 4, 181, 0, 104]
abbrev dktX8_init_10 : List UInt8 := dkwX8_init_10 ++ dktX8_init_11
def dkwX8_init_9 : List UInt8 := [188, 10, 181, 0, 89, 42, 17, 1, 0, 188, 10, 181, 0, 92, 42, 16, 7, 188, 10, 181, 0, 95, 42]
abbrev dktX8_init_9 : List UInt8 := dkwX8_init_9 ++ dktX8_init_10
def dkwX8_init_8 : List UInt8 := [16, 7, 188, 10, 181, 0, 80, 42, 2, 181, 0, 83, 42, 16, 13, 188, 10, 181, 0, 86, 42, 16, 13]
abbrev dktX8_init_8 : List UInt8 := dkwX8_init_8 ++ dktX8_init_9
def dkwX8_init_7 : List UInt8 := [188, 10, 181, 0, 71, 42, 16, 50, 188, 10, 181, 0, 74, 42, 17, 3, 32, 188, 10, 181, 0, 77, 42]
abbrev dktX8_init_7 : List UInt8 := dkwX8_init_7 ++ dktX8_init_8
def dkwX8_init_6 : List UInt8 := [181, 0, 62, 42, 17, 0, 150, 188, 10, 181, 0, 65, 42, 17, 0, 150, 188, 10, 181, 0, 68, 42, 16, 50]
abbrev dktX8_init_6 : List UInt8 := dkwX8_init_6 ++ dktX8_init_7
def dkwX8_init_5 : List UInt8 := [17, 0, 150, 188, 10, 181, 0, 56, 42, 17, 0, 150, 188, 10, 181, 0, 59, 42, 16, 8, 188, 10]
abbrev dktX8_init_5 : List UInt8 := dkwX8_init_5 ++ dktX8_init_6
def dkwX8_init_4 : List UInt8 := [188, 10, 181, 0, 47, 42, 17, 0, 150, 188, 10, 181, 0, 50, 42, 17, 0, 150, 188, 10, 181, 0, 53, 42]
abbrev dktX8_init_4 : List UInt8 := dkwX8_init_4 ++ dktX8_init_5
def dkwX8_init_3 : List UInt8 := [181, 0, 38, 42, 16, 7, 188, 10, 181, 0, 41, 42, 16, 12, 188, 10, 181, 0, 44, 42, 17, 0, 150]
abbrev dktX8_init_3 : List UInt8 := dkwX8_init_3 ++ dktX8_init_4
def dkwX8_init_2 : List UInt8 := [181, 0, 29, 42, 16, 12, 188, 10, 181, 0, 32, 42, 16, 12, 188, 10, 181, 0, 35, 42, 16, 14, 188, 10]
abbrev dktX8_init_2 : List UInt8 := dkwX8_init_2 ++ dktX8_init_3
def dkwX8_init_1 : List UInt8 := [181, 0, 20, 42, 16, 12, 188, 10, 181, 0, 23, 42, 16, 14, 188, 10, 181, 0, 26, 42, 16, 7, 188, 10]
abbrev dktX8_init_1 : List UInt8 := dkwX8_init_1 ++ dktX8_init_2
def dkwX8_init_0 : List UInt8 := [42, 183, 0, 11, 42, 5, 188, 10, 181, 0, 7, 42, 2, 181, 0, 17, 42, 17, 2, 88, 188, 10]
abbrev dktX8_init_0 : List UInt8 := dkwX8_init_0 ++ dktX8_init_1
theorem dksX8_init_0 : cX8_init.data.toList.drop 0 = dktX8_init_0 := by decide +kernel
theorem dksX8_init_1 : cX8_init.data.toList.drop 22 = dktX8_init_1 := dk_seg dksX8_init_0 22 rfl rfl
theorem dksX8_init_2 : cX8_init.data.toList.drop 46 = dktX8_init_2 := dk_seg dksX8_init_1 24 rfl rfl
theorem dksX8_init_3 : cX8_init.data.toList.drop 70 = dktX8_init_3 := dk_seg dksX8_init_2 24 rfl rfl
theorem dksX8_init_4 : cX8_init.data.toList.drop 93 = dktX8_init_4 := dk_seg dksX8_init_3 23 rfl rfl
theorem dksX8_init_5 : cX8_init.data.toList.drop 117 = dktX8_init_5 := dk_seg dksX8_init_4 24 rfl rfl
theorem dksX8_init_6 : cX8_init.data.toList.drop 139 = dktX8_init_6 := dk_seg dksX8_init_5 22 rfl rfl
theorem dksX8_init_7 : cX8_init.data.toList.drop 163 = dktX8_init_7 := dk_seg dksX8_init_6 24 rfl rfl
theorem dksX8_init_8 : cX8_init.data.toList.drop 186 = dktX8_init_8 := dk_seg dksX8_init_7 23 rfl rfl
theorem dksX8_init_9 : cX8_init.data.toList.drop 209 = dktX8_init_9 := dk_seg dksX8_init_8 23 rfl rfl
theorem dksX8_init_10 : cX8_init.data.toList.drop 232 = dktX8_init_10 := dk_seg dksX8_init_9 23 rfl rfl
theorem dksX8_init_11 : cX8_init.data.toList.drop 256 = dktX8_init_11 := dk_seg dksX8_init_10 24 rfl rfl
theorem dksX8_init_12 : cX8_init.data.toList.drop 279 = dktX8_init_12 := dk_seg dksX8_init_11 23 rfl rfl
theorem dX8_init_0 : decode cX8_init 0 = .ok (.aload_n 0, 1) := dk_42 (dk_at dksX8_init_0 0 rfl rfl)
theorem dX8_init_1 : decode cX8_init 1 = .ok (.invokespecial 11, 3) := dk_183 0 11 (dk_at dksX8_init_0 1 rfl rfl)
theorem dX8_init_4 : decode cX8_init 4 = .ok (.aload_n 0, 1) := dk_42 (dk_at dksX8_init_0 4 rfl rfl)
theorem dX8_init_5 : decode cX8_init 5 = .ok (.iconst 2, 1) := dk_5 (dk_at dksX8_init_0 5 rfl rfl)
theorem dX8_init_6 : decode cX8_init 6 = .ok (.newarray .int, 2) := dk_188_10 (dk_at dksX8_init_0 6 rfl rfl)
theorem dX8_init_8 : decode cX8_init 8 = .ok (.putfield 7, 3) := dk_181 0 7 (dk_at dksX8_init_0 8 rfl rfl)
theorem dX8_init_11 : decode cX8_init 11 = .ok (.aload_n 0, 1) := dk_42 (dk_at dksX8_init_0 11 rfl rfl)
theorem dX8_init_12 : decode cX8_init 12 = .ok (.iconst (-1), 1) := dk_2 (dk_at dksX8_init_0 12 rfl rfl)
theorem dX8_init_13 : decode cX8_init 13 = .ok (.putfield 17, 3) := dk_181 0 17 (dk_at dksX8_init_0 13 rfl rfl)
theorem dX8_init_16 : decode cX8_init 16 = .ok (.aload_n 0, 1) := dk_42 (dk_at dksX8_init_0 16 rfl rfl)
theorem dX8_init_17 : decode cX8_init 17 = .ok (.sipush 600, 3) := dk_17 2 88 (dk_at dksX8_init_0 17 rfl rfl)
theorem dX8_init_20 : decode cX8_init 20 = .ok (.newarray .int, 2) := dk_188_10 (dk_at dksX8_init_0 20 rfl rfl)
theorem dX8_init_22 : decode cX8_init 22 = .ok (.putfield 20, 3) := dk_181 0 20 (dk_at dksX8_init_1 0 rfl rfl)
theorem dX8_init_25 : decode cX8_init 25 = .ok (.aload_n 0, 1) := dk_42 (dk_at dksX8_init_1 3 rfl rfl)
theorem dX8_init_26 : decode cX8_init 26 = .ok (.bipush 12, 2) := dk_16 12 (dk_at dksX8_init_1 4 rfl rfl)
theorem dX8_init_28 : decode cX8_init 28 = .ok (.newarray .int, 2) := dk_188_10 (dk_at dksX8_init_1 6 rfl rfl)
theorem dX8_init_30 : decode cX8_init 30 = .ok (.putfield 23, 3) := dk_181 0 23 (dk_at dksX8_init_1 8 rfl rfl)
theorem dX8_init_33 : decode cX8_init 33 = .ok (.aload_n 0, 1) := dk_42 (dk_at dksX8_init_1 11 rfl rfl)
theorem dX8_init_34 : decode cX8_init 34 = .ok (.bipush 14, 2) := dk_16 14 (dk_at dksX8_init_1 12 rfl rfl)
theorem dX8_init_36 : decode cX8_init 36 = .ok (.newarray .int, 2) := dk_188_10 (dk_at dksX8_init_1 14 rfl rfl)
theorem dX8_init_38 : decode cX8_init 38 = .ok (.putfield 26, 3) := dk_181 0 26 (dk_at dksX8_init_1 16 rfl rfl)
theorem dX8_init_41 : decode cX8_init 41 = .ok (.aload_n 0, 1) := dk_42 (dk_at dksX8_init_1 19 rfl rfl)
theorem dX8_init_42 : decode cX8_init 42 = .ok (.bipush 7, 2) := dk_16 7 (dk_at dksX8_init_1 20 rfl rfl)
theorem dX8_init_44 : decode cX8_init 44 = .ok (.newarray .int, 2) := dk_188_10 (dk_at dksX8_init_1 22 rfl rfl)
theorem dX8_init_46 : decode cX8_init 46 = .ok (.putfield 29, 3) := dk_181 0 29 (dk_at dksX8_init_2 0 rfl rfl)
theorem dX8_init_49 : decode cX8_init 49 = .ok (.aload_n 0, 1) := dk_42 (dk_at dksX8_init_2 3 rfl rfl)
theorem dX8_init_50 : decode cX8_init 50 = .ok (.bipush 12, 2) := dk_16 12 (dk_at dksX8_init_2 4 rfl rfl)
theorem dX8_init_52 : decode cX8_init 52 = .ok (.newarray .int, 2) := dk_188_10 (dk_at dksX8_init_2 6 rfl rfl)
theorem dX8_init_54 : decode cX8_init 54 = .ok (.putfield 32, 3) := dk_181 0 32 (dk_at dksX8_init_2 8 rfl rfl)
theorem dX8_init_57 : decode cX8_init 57 = .ok (.aload_n 0, 1) := dk_42 (dk_at dksX8_init_2 11 rfl rfl)
theorem dX8_init_58 : decode cX8_init 58 = .ok (.bipush 12, 2) := dk_16 12 (dk_at dksX8_init_2 12 rfl rfl)
theorem dX8_init_60 : decode cX8_init 60 = .ok (.newarray .int, 2) := dk_188_10 (dk_at dksX8_init_2 14 rfl rfl)
theorem dX8_init_62 : decode cX8_init 62 = .ok (.putfield 35, 3) := dk_181 0 35 (dk_at dksX8_init_2 16 rfl rfl)
theorem dX8_init_65 : decode cX8_init 65 = .ok (.aload_n 0, 1) := dk_42 (dk_at dksX8_init_2 19 rfl rfl)
theorem dX8_init_66 : decode cX8_init 66 = .ok (.bipush 14, 2) := dk_16 14 (dk_at dksX8_init_2 20 rfl rfl)
theorem dX8_init_68 : decode cX8_init 68 = .ok (.newarray .int, 2) := dk_188_10 (dk_at dksX8_init_2 22 rfl rfl)
theorem dX8_init_70 : decode cX8_init 70 = .ok (.putfield 38, 3) := dk_181 0 38 (dk_at dksX8_init_3 0 rfl rfl)
theorem dX8_init_73 : decode cX8_init 73 = .ok (.aload_n 0, 1) := dk_42 (dk_at dksX8_init_3 3 rfl rfl)
theorem dX8_init_74 : decode cX8_init 74 = .ok (.bipush 7, 2) := dk_16 7 (dk_at dksX8_init_3 4 rfl rfl)
theorem dX8_init_76 : decode cX8_init 76 = .ok (.newarray .int, 2) := dk_188_10 (dk_at dksX8_init_3 6 rfl rfl)
theorem dX8_init_78 : decode cX8_init 78 = .ok (.putfield 41, 3) := dk_181 0 41 (dk_at dksX8_init_3 8 rfl rfl)
theorem dX8_init_81 : decode cX8_init 81 = .ok (.aload_n 0, 1) := dk_42 (dk_at dksX8_init_3 11 rfl rfl)
theorem dX8_init_82 : decode cX8_init 82 = .ok (.bipush 12, 2) := dk_16 12 (dk_at dksX8_init_3 12 rfl rfl)
theorem dX8_init_84 : decode cX8_init 84 = .ok (.newarray .int, 2) := dk_188_10 (dk_at dksX8_init_3 14 rfl rfl)
theorem dX8_init_86 : decode cX8_init 86 = .ok (.putfield 44, 3) := dk_181 0 44 (dk_at dksX8_init_3 16 rfl rfl)
theorem dX8_init_89 : decode cX8_init 89 = .ok (.aload_n 0, 1) := dk_42 (dk_at dksX8_init_3 19 rfl rfl)
theorem dX8_init_90 : decode cX8_init 90 = .ok (.sipush 150, 3) := dk_17 0 150 (dk_at dksX8_init_3 20 rfl rfl)
theorem dX8_init_93 : decode cX8_init 93 = .ok (.newarray .int, 2) := dk_188_10 (dk_at dksX8_init_4 0 rfl rfl)
theorem dX8_init_95 : decode cX8_init 95 = .ok (.putfield 47, 3) := dk_181 0 47 (dk_at dksX8_init_4 2 rfl rfl)
theorem dX8_init_98 : decode cX8_init 98 = .ok (.aload_n 0, 1) := dk_42 (dk_at dksX8_init_4 5 rfl rfl)
theorem dX8_init_99 : decode cX8_init 99 = .ok (.sipush 150, 3) := dk_17 0 150 (dk_at dksX8_init_4 6 rfl rfl)
theorem dX8_init_102 : decode cX8_init 102 = .ok (.newarray .int, 2) := dk_188_10 (dk_at dksX8_init_4 9 rfl rfl)
theorem dX8_init_104 : decode cX8_init 104 = .ok (.putfield 50, 3) := dk_181 0 50 (dk_at dksX8_init_4 11 rfl rfl)
theorem dX8_init_107 : decode cX8_init 107 = .ok (.aload_n 0, 1) := dk_42 (dk_at dksX8_init_4 14 rfl rfl)
theorem dX8_init_108 : decode cX8_init 108 = .ok (.sipush 150, 3) := dk_17 0 150 (dk_at dksX8_init_4 15 rfl rfl)
theorem dX8_init_111 : decode cX8_init 111 = .ok (.newarray .int, 2) := dk_188_10 (dk_at dksX8_init_4 18 rfl rfl)
theorem dX8_init_113 : decode cX8_init 113 = .ok (.putfield 53, 3) := dk_181 0 53 (dk_at dksX8_init_4 20 rfl rfl)
theorem dX8_init_116 : decode cX8_init 116 = .ok (.aload_n 0, 1) := dk_42 (dk_at dksX8_init_4 23 rfl rfl)
theorem dX8_init_117 : decode cX8_init 117 = .ok (.sipush 150, 3) := dk_17 0 150 (dk_at dksX8_init_5 0 rfl rfl)
theorem dX8_init_120 : decode cX8_init 120 = .ok (.newarray .int, 2) := dk_188_10 (dk_at dksX8_init_5 3 rfl rfl)
theorem dX8_init_122 : decode cX8_init 122 = .ok (.putfield 56, 3) := dk_181 0 56 (dk_at dksX8_init_5 5 rfl rfl)
theorem dX8_init_125 : decode cX8_init 125 = .ok (.aload_n 0, 1) := dk_42 (dk_at dksX8_init_5 8 rfl rfl)
theorem dX8_init_126 : decode cX8_init 126 = .ok (.sipush 150, 3) := dk_17 0 150 (dk_at dksX8_init_5 9 rfl rfl)
theorem dX8_init_129 : decode cX8_init 129 = .ok (.newarray .int, 2) := dk_188_10 (dk_at dksX8_init_5 12 rfl rfl)
theorem dX8_init_131 : decode cX8_init 131 = .ok (.putfield 59, 3) := dk_181 0 59 (dk_at dksX8_init_5 14 rfl rfl)
theorem dX8_init_134 : decode cX8_init 134 = .ok (.aload_n 0, 1) := dk_42 (dk_at dksX8_init_5 17 rfl rfl)
theorem dX8_init_135 : decode cX8_init 135 = .ok (.bipush 8, 2) := dk_16 8 (dk_at dksX8_init_5 18 rfl rfl)
theorem dX8_init_137 : decode cX8_init 137 = .ok (.newarray .int, 2) := dk_188_10 (dk_at dksX8_init_5 20 rfl rfl)
theorem dX8_init_139 : decode cX8_init 139 = .ok (.putfield 62, 3) := dk_181 0 62 (dk_at dksX8_init_6 0 rfl rfl)
theorem dX8_init_142 : decode cX8_init 142 = .ok (.aload_n 0, 1) := dk_42 (dk_at dksX8_init_6 3 rfl rfl)
theorem dX8_init_143 : decode cX8_init 143 = .ok (.sipush 150, 3) := dk_17 0 150 (dk_at dksX8_init_6 4 rfl rfl)
theorem dX8_init_146 : decode cX8_init 146 = .ok (.newarray .int, 2) := dk_188_10 (dk_at dksX8_init_6 7 rfl rfl)
theorem dX8_init_148 : decode cX8_init 148 = .ok (.putfield 65, 3) := dk_181 0 65 (dk_at dksX8_init_6 9 rfl rfl)
theorem dX8_init_151 : decode cX8_init 151 = .ok (.aload_n 0, 1) := dk_42 (dk_at dksX8_init_6 12 rfl rfl)
theorem dX8_init_152 : decode cX8_init 152 = .ok (.sipush 150, 3) := dk_17 0 150 (dk_at dksX8_init_6 13 rfl rfl)
theorem dX8_init_155 : decode cX8_init 155 = .ok (.newarray .int, 2) := dk_188_10 (dk_at dksX8_init_6 16 rfl rfl)
theorem dX8_init_157 : decode cX8_init 157 = .ok (.putfield 68, 3) := dk_181 0 68 (dk_at dksX8_init_6 18 rfl rfl)
theorem dX8_init_160 : decode cX8_init 160 = .ok (.aload_n 0, 1) := dk_42 (dk_at dksX8_init_6 21 rfl rfl)
theorem dX8_init_161 : decode cX8_init 161 = .ok (.bipush 50, 2) := dk_16 50 (dk_at dksX8_init_6 22 rfl rfl)
theorem dX8_init_163 : decode cX8_init 163 = .ok (.newarray .int, 2) := dk_188_10 (dk_at dksX8_init_7 0 rfl rfl)
theorem dX8_init_165 : decode cX8_init 165 = .ok (.putfield 71, 3) := dk_181 0 71 (dk_at dksX8_init_7 2 rfl rfl)
theorem dX8_init_168 : decode cX8_init 168 = .ok (.aload_n 0, 1) := dk_42 (dk_at dksX8_init_7 5 rfl rfl)
theorem dX8_init_169 : decode cX8_init 169 = .ok (.bipush 50, 2) := dk_16 50 (dk_at dksX8_init_7 6 rfl rfl)
theorem dX8_init_171 : decode cX8_init 171 = .ok (.newarray .int, 2) := dk_188_10 (dk_at dksX8_init_7 8 rfl rfl)
theorem dX8_init_173 : decode cX8_init 173 = .ok (.putfield 74, 3) := dk_181 0 74 (dk_at dksX8_init_7 10 rfl rfl)
theorem dX8_init_176 : decode cX8_init 176 = .ok (.aload_n 0, 1) := dk_42 (dk_at dksX8_init_7 13 rfl rfl)
theorem dX8_init_177 : decode cX8_init 177 = .ok (.sipush 800, 3) := dk_17 3 32 (dk_at dksX8_init_7 14 rfl rfl)
theorem dX8_init_180 : decode cX8_init 180 = .ok (.newarray .int, 2) := dk_188_10 (dk_at dksX8_init_7 17 rfl rfl)
theorem dX8_init_182 : decode cX8_init 182 = .ok (.putfield 77, 3) := dk_181 0 77 (dk_at dksX8_init_7 19 rfl rfl)
theorem dX8_init_185 : decode cX8_init 185 = .ok (.aload_n 0, 1) := dk_42 (dk_at dksX8_init_7 22 rfl rfl)
theorem dX8_init_186 : decode cX8_init 186 = .ok (.bipush 7, 2) := dk_16 7 (dk_at dksX8_init_8 0 rfl rfl)
theorem dX8_init_188 : decode cX8_init 188 = .ok (.newarray .int, 2) := dk_188_10 (dk_at dksX8_init_8 2 rfl rfl)
theorem dX8_init_190 : decode cX8_init 190 = .ok (.putfield 80, 3) := dk_181 0 80 (dk_at dksX8_init_8 4 rfl rfl)
theorem dX8_init_193 : decode cX8_init 193 = .ok (.aload_n 0, 1) := dk_42 (dk_at dksX8_init_8 7 rfl rfl)
theorem dX8_init_194 : decode cX8_init 194 = .ok (.iconst (-1), 1) := dk_2 (dk_at dksX8_init_8 8 rfl rfl)
theorem dX8_init_195 : decode cX8_init 195 = .ok (.putfield 83, 3) := dk_181 0 83 (dk_at dksX8_init_8 9 rfl rfl)
theorem dX8_init_198 : decode cX8_init 198 = .ok (.aload_n 0, 1) := dk_42 (dk_at dksX8_init_8 12 rfl rfl)
theorem dX8_init_199 : decode cX8_init 199 = .ok (.bipush 13, 2) := dk_16 13 (dk_at dksX8_init_8 13 rfl rfl)
theorem dX8_init_201 : decode cX8_init 201 = .ok (.newarray .int, 2) := dk_188_10 (dk_at dksX8_init_8 15 rfl rfl)
theorem dX8_init_203 : decode cX8_init 203 = .ok (.putfield 86, 3) := dk_181 0 86 (dk_at dksX8_init_8 17 rfl rfl)
theorem dX8_init_206 : decode cX8_init 206 = .ok (.aload_n 0, 1) := dk_42 (dk_at dksX8_init_8 20 rfl rfl)
theorem dX8_init_207 : decode cX8_init 207 = .ok (.bipush 13, 2) := dk_16 13 (dk_at dksX8_init_8 21 rfl rfl)
theorem dX8_init_209 : decode cX8_init 209 = .ok (.newarray .int, 2) := dk_188_10 (dk_at dksX8_init_9 0 rfl rfl)
theorem dX8_init_211 : decode cX8_init 211 = .ok (.putfield 89, 3) := dk_181 0 89 (dk_at dksX8_init_9 2 rfl rfl)
theorem dX8_init_214 : decode cX8_init 214 = .ok (.aload_n 0, 1) := dk_42 (dk_at dksX8_init_9 5 rfl rfl)
theorem dX8_init_215 : decode cX8_init 215 = .ok (.sipush 256, 3) := dk_17 1 0 (dk_at dksX8_init_9 6 rfl rfl)
theorem dX8_init_218 : decode cX8_init 218 = .ok (.newarray .int, 2) := dk_188_10 (dk_at dksX8_init_9 9 rfl rfl)
theorem dX8_init_220 : decode cX8_init 220 = .ok (.putfield 92, 3) := dk_181 0 92 (dk_at dksX8_init_9 11 rfl rfl)
theorem dX8_init_223 : decode cX8_init 223 = .ok (.aload_n 0, 1) := dk_42 (dk_at dksX8_init_9 14 rfl rfl)
theorem dX8_init_224 : decode cX8_init 224 = .ok (.bipush 7, 2) := dk_16 7 (dk_at dksX8_init_9 15 rfl rfl)
theorem dX8_init_226 : decode cX8_init 226 = .ok (.newarray .int, 2) := dk_188_10 (dk_at dksX8_init_9 17 rfl rfl)
theorem dX8_init_228 : decode cX8_init 228 = .ok (.putfield 95, 3) := dk_181 0 95 (dk_at dksX8_init_9 19 rfl rfl)
theorem dX8_init_231 : decode cX8_init 231 = .ok (.aload_n 0, 1) := dk_42 (dk_at dksX8_init_9 22 rfl rfl)
theorem dX8_init_232 : decode cX8_init 232 = .ok (.bipush 7, 2) := dk_16 7 (dk_at dksX8_init_10 0 rfl rfl)
theorem dX8_init_234 : decode cX8_init 234 = .ok (.newarray .int, 2) := dk_188_10 (dk_at dksX8_init_10 2 rfl rfl)
theorem dX8_init_236 : decode cX8_init 236 = .ok (.putfield 98, 3) := dk_181 0 98 (dk_at dksX8_init_10 4 rfl rfl)
theorem dX8_init_239 : decode cX8_init 239 = .ok (.aload_n 0, 1) := dk_42 (dk_at dksX8_init_10 7 rfl rfl)
theorem dX8_init_240 : decode cX8_init 240 = .ok (.sipush 1300, 3) := dk_17 5 20 (dk_at dksX8_init_10 8 rfl rfl)
theorem dX8_init_243 : decode cX8_init 243 = .ok (.newarray .int, 2) := dk_188_10 (dk_at dksX8_init_10 11 rfl rfl)
theorem dX8_init_245 : decode cX8_init 245 = .ok (.putfield 101, 3) := dk_181 0 101 (dk_at dksX8_init_10 13 rfl rfl)
theorem dX8_init_248 : decode cX8_init 248 = .ok (.aload_n 0, 1) := dk_42 (dk_at dksX8_init_10 16 rfl rfl)
theorem dX8_init_249 : decode cX8_init 249 = .ok (.bipush 100, 2) := dk_16 100 (dk_at dksX8_init_10 17 rfl rfl)
theorem dX8_init_251 : decode cX8_init 251 = .ok (.newarray .boolean, 2) := dk_188_4 (dk_at dksX8_init_10 19 rfl rfl)
theorem dX8_init_253 : decode cX8_init 253 = .ok (.putfield 104, 3) := dk_181 0 104 (dk_at dksX8_init_10 21 rfl rfl)
theorem dX8_init_256 : decode cX8_init 256 = .ok (.aload_n 0, 1) := dk_42 (dk_at dksX8_init_11 0 rfl rfl)
theorem dX8_init_257 : decode cX8_init 257 = .ok (.sipush 1000, 3) := dk_17 3 232 (dk_at dksX8_init_11 1 rfl rfl)
theorem dX8_init_260 : decode cX8_init 260 = .ok (.newarray .int, 2) := dk_188_10 (dk_at dksX8_init_11 4 rfl rfl)
theorem dX8_init_262 : decode cX8_init 262 = .ok (.putfield 108, 3) := dk_181 0 108 (dk_at dksX8_init_11 6 rfl rfl)
theorem dX8_init_265 : decode cX8_init 265 = .ok (.aload_n 0, 1) := dk_42 (dk_at dksX8_init_11 9 rfl rfl)
theorem dX8_init_266 : decode cX8_init 266 = .ok (.bipush 14, 2) := dk_16 14 (dk_at dksX8_init_11 10 rfl rfl)
theorem dX8_init_268 : decode cX8_init 268 = .ok (.newarray .long, 2) := dk_188_11 (dk_at dksX8_init_11 12 rfl rfl)
theorem dX8_init_270 : decode cX8_init 270 = .ok (.putfield 111, 3) := dk_181 0 111 (dk_at dksX8_init_11 14 rfl rfl)
theorem dX8_init_273 : decode cX8_init 273 = .ok (.aload_n 0, 1) := dk_42 (dk_at dksX8_init_11 17 rfl rfl)
theorem dX8_init_274 : decode cX8_init 274 = .ok (.sipush 2553, 3) := dk_17 9 249 (dk_at dksX8_init_11 18 rfl rfl)
theorem dX8_init_277 : decode cX8_init 277 = .ok (.newarray .int, 2) := dk_188_10 (dk_at dksX8_init_11 21 rfl rfl)
theorem dX8_init_279 : decode cX8_init 279 = .ok (.putfield 115, 3) := dk_181 0 115 (dk_at dksX8_init_12 0 rfl rfl)
theorem dX8_init_282 : decode cX8_init 282 = .ok (.aload_n 0, 1) := dk_42 (dk_at dksX8_init_12 3 rfl rfl)
theorem dX8_init_283 : decode cX8_init 283 = .ok (.invokevirtual 118, 3) := dk_182 0 118 (dk_at dksX8_init_12 4 rfl rfl)
theorem dX8_init_286 : decode cX8_init 286 = .ok (.aload_n 0, 1) := dk_42 (dk_at dksX8_init_12 7 rfl rfl)
theorem dX8_init_287 : decode cX8_init 287 = .ok (.invokevirtual 121, 3) := dk_182 0 121 (dk_at dksX8_init_12 8 rfl rfl)
theorem dX8_init_290 : decode cX8_init 290 = .ok (.return_, 1) := dk_177 (dk_at dksX8_init_12 11 rfl rfl)
abbrev cX8_clears : ByteArray := prog_24_method_21_code
def yX8_clears : MethodName := ⟨RX8, "clears", "()V"⟩
def dkwX8_clears_2 : List UInt8 := [132, 1, 1, 167, 255, 240, 177]
abbrev dktX8_clears_2 : List UInt8 := dkwX8_clears_2 ++ []
def dkwX8_clears_1 : List UInt8 := [79, 132, 1, 1, 167, 255, 240, 3, 60, 27, 16, 12, 162, 0, 16, 42, 180, 0, 32, 27, 6, 79]
abbrev dktX8_clears_1 : List UInt8 := dkwX8_clears_1 ++ dktX8_clears_2
def dkwX8_clears_0 : List UInt8 := [42, 3, 181, 0, 170, 42, 3, 181, 0, 173, 3, 60, 27, 16, 7, 162, 0, 16, 42, 180, 0, 29, 27, 3]
abbrev dktX8_clears_0 : List UInt8 := dkwX8_clears_0 ++ dktX8_clears_1
theorem dksX8_clears_0 : cX8_clears.data.toList.drop 0 = dktX8_clears_0 := by decide +kernel
theorem dksX8_clears_1 : cX8_clears.data.toList.drop 24 = dktX8_clears_1 := dk_seg dksX8_clears_0 24 rfl rfl
theorem dksX8_clears_2 : cX8_clears.data.toList.drop 46 = dktX8_clears_2 := dk_seg dksX8_clears_1 22 rfl rfl
theorem dX8_clears_0 : decode cX8_clears 0 = .ok (.aload_n 0, 1) := dk_42 (dk_at dksX8_clears_0 0 rfl rfl)
theorem dX8_clears_1 : decode cX8_clears 1 = .ok (.iconst 0, 1) := dk_3 (dk_at dksX8_clears_0 1 rfl rfl)
theorem dX8_clears_2 : decode cX8_clears 2 = .ok (.putfield 170, 3) := dk_181 0 170 (dk_at dksX8_clears_0 2 rfl rfl)
theorem dX8_clears_5 : decode cX8_clears 5 = .ok (.aload_n 0, 1) := dk_42 (dk_at dksX8_clears_0 5 rfl rfl)
theorem dX8_clears_6 : decode cX8_clears 6 = .ok (.iconst 0, 1) := dk_3 (dk_at dksX8_clears_0 6 rfl rfl)
theorem dX8_clears_7 : decode cX8_clears 7 = .ok (.putfield 173, 3) := dk_181 0 173 (dk_at dksX8_clears_0 7 rfl rfl)
theorem dX8_clears_10 : decode cX8_clears 10 = .ok (.iconst 0, 1) := dk_3 (dk_at dksX8_clears_0 10 rfl rfl)
theorem dX8_clears_11 : decode cX8_clears 11 = .ok (.istore_n 1, 1) := dk_60 (dk_at dksX8_clears_0 11 rfl rfl)
theorem dX8_clears_12 : decode cX8_clears 12 = .ok (.iload_n 1, 1) := dk_27 (dk_at dksX8_clears_0 12 rfl rfl)
theorem dX8_clears_13 : decode cX8_clears 13 = .ok (.bipush 7, 2) := dk_16 7 (dk_at dksX8_clears_0 13 rfl rfl)
theorem dX8_clears_15 : decode cX8_clears 15 = .ok (.if_icmp .ge 16, 3) := dk_162 0 16 (dk_at dksX8_clears_0 15 rfl rfl)
theorem dX8_clears_18 : decode cX8_clears 18 = .ok (.aload_n 0, 1) := dk_42 (dk_at dksX8_clears_0 18 rfl rfl)
theorem dX8_clears_19 : decode cX8_clears 19 = .ok (.getfield 29, 3) := dk_180 0 29 (dk_at dksX8_clears_0 19 rfl rfl)
theorem dX8_clears_22 : decode cX8_clears 22 = .ok (.iload_n 1, 1) := dk_27 (dk_at dksX8_clears_0 22 rfl rfl)
theorem dX8_clears_23 : decode cX8_clears 23 = .ok (.iconst 0, 1) := dk_3 (dk_at dksX8_clears_0 23 rfl rfl)
theorem dX8_clears_24 : decode cX8_clears 24 = .ok (.iastore, 1) := dk_79 (dk_at dksX8_clears_1 0 rfl rfl)
theorem dX8_clears_25 : decode cX8_clears 25 = .ok (.iinc 1 1, 3) := dk_132 1 1 (dk_at dksX8_clears_1 1 rfl rfl)
theorem dX8_clears_28 : decode cX8_clears 28 = .ok (.goto (-16), 3) := dk_167 255 240 (dk_at dksX8_clears_1 4 rfl rfl)
theorem dX8_clears_31 : decode cX8_clears 31 = .ok (.iconst 0, 1) := dk_3 (dk_at dksX8_clears_1 7 rfl rfl)
theorem dX8_clears_32 : decode cX8_clears 32 = .ok (.istore_n 1, 1) := dk_60 (dk_at dksX8_clears_1 8 rfl rfl)
theorem dX8_clears_33 : decode cX8_clears 33 = .ok (.iload_n 1, 1) := dk_27 (dk_at dksX8_clears_1 9 rfl rfl)
theorem dX8_clears_34 : decode cX8_clears 34 = .ok (.bipush 12, 2) := dk_16 12 (dk_at dksX8_clears_1 10 rfl rfl)
theorem dX8_clears_36 : decode cX8_clears 36 = .ok (.if_icmp .ge 16, 3) := dk_162 0 16 (dk_at dksX8_clears_1 12 rfl rfl)
theorem dX8_clears_39 : decode cX8_clears 39 = .ok (.aload_n 0, 1) := dk_42 (dk_at dksX8_clears_1 15 rfl rfl)
theorem dX8_clears_40 : decode cX8_clears 40 = .ok (.getfield 32, 3) := dk_180 0 32 (dk_at dksX8_clears_1 16 rfl rfl)
theorem dX8_clears_43 : decode cX8_clears 43 = .ok (.iload_n 1, 1) := dk_27 (dk_at dksX8_clears_1 19 rfl rfl)
theorem dX8_clears_44 : decode cX8_clears 44 = .ok (.iconst 3, 1) := dk_6 (dk_at dksX8_clears_1 20 rfl rfl)
theorem dX8_clears_45 : decode cX8_clears 45 = .ok (.iastore, 1) := dk_79 (dk_at dksX8_clears_1 21 rfl rfl)
theorem dX8_clears_46 : decode cX8_clears 46 = .ok (.iinc 1 1, 3) := dk_132 1 1 (dk_at dksX8_clears_2 0 rfl rfl)
theorem dX8_clears_49 : decode cX8_clears 49 = .ok (.goto (-16), 3) := dk_167 255 240 (dk_at dksX8_clears_2 3 rfl rfl)
theorem dX8_clears_52 : decode cX8_clears 52 = .ok (.return_, 1) := dk_177 (dk_at dksX8_clears_2 6 rfl rfl)
abbrev cX8_sets : ByteArray := prog_24_method_22_code
def yX8_sets : MethodName := ⟨RX8, "sets", "()V"⟩
def dkwX8_sets_12 : List UInt8 := [132, 1, 1, 167, 255, 228, 177]
abbrev dktX8_sets_12 : List UInt8 := dkwX8_sets_12 ++ []
def dkwX8_sets_11 : List UInt8 := [180, 0, 176, 162, 0, 26, 42, 180, 0, 71, 16, 42, 27, 96, 42, 180, 0, 35, 5, 27, 104, 46, 79]
abbrev dktX8_sets_11 : List UInt8 := dkwX8_sets_11 ++ dktX8_sets_12
def dkwX8_sets_10 : List UInt8 := [180, 0, 38, 5, 27, 104, 4, 96, 46, 167, 0, 4, 3, 79, 132, 1, 1, 167, 255, 146, 3, 60, 27, 42]
abbrev dktX8_sets_10 : List UInt8 := dkwX8_sets_10 ++ dktX8_sets_11
def dkwX8_sets_9 : List UInt8 := [46, 167, 0, 4, 3, 79, 42, 180, 0, 71, 16, 7, 27, 96, 27, 42, 180, 0, 179, 162, 0, 16, 42]
abbrev dktX8_sets_9 : List UInt8 := dkwX8_sets_9 ++ dktX8_sets_10
def dkwX8_sets_8 : List UInt8 := [3, 79, 42, 180, 0, 71, 3, 27, 96, 27, 42, 180, 0, 179, 162, 0, 14, 42, 180, 0, 38, 5, 27, 104]
abbrev dktX8_sets_8 : List UInt8 := dkwX8_sets_8 ++ dktX8_sets_9
def dkwX8_sets_7 : List UInt8 := [27, 96, 2, 79, 42, 180, 0, 71, 16, 35, 27, 96, 27, 42, 180, 0, 179, 162, 0, 7, 4, 167, 0, 4]
abbrev dktX8_sets_7 : List UInt8 := dkwX8_sets_7 ++ dktX8_sets_8
def dkwX8_sets_6 : List UInt8 := [3, 60, 27, 16, 7, 162, 0, 110, 42, 180, 0, 71, 16, 14, 27, 96, 2, 79, 42, 180, 0, 71, 16, 28]
abbrev dktX8_sets_6 : List UInt8 := dkwX8_sets_6 ++ dktX8_sets_7
def dkwX8_sets_5 : List UInt8 := [167, 255, 240, 3, 60, 27, 16, 50, 162, 0, 16, 42, 180, 0, 71, 27, 3, 79, 132, 1, 1, 167, 255, 240]
abbrev dktX8_sets_5 : List UInt8 := dkwX8_sets_5 ++ dktX8_sets_6
def dkwX8_sets_4 : List UInt8 := [3, 181, 0, 198, 3, 60, 27, 16, 12, 163, 0, 16, 42, 180, 0, 89, 27, 2, 79, 132, 1, 1]
abbrev dktX8_sets_4 : List UInt8 := dkwX8_sets_4 ++ dktX8_sets_5
def dkwX8_sets_3 : List UInt8 := [182, 0, 182, 42, 3, 181, 0, 186, 42, 3, 181, 0, 189, 42, 3, 181, 0, 192, 42, 3, 181, 0, 195, 42]
abbrev dktX8_sets_3 : List UInt8 := dkwX8_sets_3 ++ dktX8_sets_4
def dkwX8_sets_2 : List UInt8 := [180, 0, 29, 42, 180, 0, 41, 16, 7, 182, 0, 182, 42, 42, 180, 0, 32, 42, 180, 0, 44, 16, 12]
abbrev dktX8_sets_2 : List UInt8 := dkwX8_sets_2 ++ dktX8_sets_3
def dkwX8_sets_1 : List UInt8 := [180, 0, 35, 16, 12, 182, 0, 182, 42, 42, 180, 0, 26, 42, 180, 0, 38, 16, 14, 182, 0, 182, 42, 42]
abbrev dktX8_sets_1 : List UInt8 := dkwX8_sets_1 ++ dktX8_sets_2
def dkwX8_sets_0 : List UInt8 := [42, 42, 180, 0, 170, 181, 0, 176, 42, 42, 180, 0, 173, 181, 0, 179, 42, 42, 180, 0, 23, 42]
abbrev dktX8_sets_0 : List UInt8 := dkwX8_sets_0 ++ dktX8_sets_1
theorem dksX8_sets_0 : cX8_sets.data.toList.drop 0 = dktX8_sets_0 := by decide +kernel
theorem dksX8_sets_1 : cX8_sets.data.toList.drop 22 = dktX8_sets_1 := dk_seg dksX8_sets_0 22 rfl rfl
theorem dksX8_sets_2 : cX8_sets.data.toList.drop 46 = dktX8_sets_2 := dk_seg dksX8_sets_1 24 rfl rfl
theorem dksX8_sets_3 : cX8_sets.data.toList.drop 69 = dktX8_sets_3 := dk_seg dksX8_sets_2 23 rfl rfl
theorem dksX8_sets_4 : cX8_sets.data.toList.drop 93 = dktX8_sets_4 := dk_seg dksX8_sets_3 24 rfl rfl
theorem dksX8_sets_5 : cX8_sets.data.toList.drop 115 = dktX8_sets_5 := dk_seg dksX8_sets_4 22 rfl rfl
theorem dksX8_sets_6 : cX8_sets.data.toList.drop 139 = dktX8_sets_6 := dk_seg dksX8_sets_5 24 rfl rfl
theorem dksX8_sets_7 : cX8_sets.data.toList.drop 163 = dktX8_sets_7 := dk_seg dksX8_sets_6 24 rfl rfl
theorem dksX8_sets_8 : cX8_sets.data.toList.drop 187 = dktX8_sets_8 := dk_seg dksX8_sets_7 24 rfl rfl
theorem dksX8_sets_9 : cX8_sets.data.toList.drop 211 = dktX8_sets_9 := dk_seg dksX8_sets_8 24 rfl rfl
theorem dksX8_sets_10 : cX8_sets.data.toList.drop 234 = dktX8_sets_10 := dk_seg dksX8_sets_9 23 rfl rfl
theorem dksX8_sets_11 : cX8_sets.data.toList.drop 258 = dktX8_sets_11 := dk_seg dksX8_sets_10 24 rfl rfl
theorem dksX8_sets_12 : cX8_sets.data.toList.drop 281 = dktX8_sets_12 := dk_seg dksX8_sets_11 23 rfl rfl
theorem dX8_sets_0 : decode cX8_sets 0 = .ok (.aload_n 0, 1) := dk_42 (dk_at dksX8_sets_0 0 rfl rfl)
theorem dX8_sets_1 : decode cX8_sets 1 = .ok (.aload_n 0, 1) := dk_42 (dk_at dksX8_sets_0 1 rfl rfl)
theorem dX8_sets_2 : decode cX8_sets 2 = .ok (.getfield 170, 3) := dk_180 0 170 (dk_at dksX8_sets_0 2 rfl rfl)
theorem dX8_sets_5 : decode cX8_sets 5 = .ok (.putfield 176, 3) := dk_181 0 176 (dk_at dksX8_sets_0 5 rfl rfl)
theorem dX8_sets_8 : decode cX8_sets 8 = .ok (.aload_n 0, 1) := dk_42 (dk_at dksX8_sets_0 8 rfl rfl)
theorem dX8_sets_9 : decode cX8_sets 9 = .ok (.aload_n 0, 1) := dk_42 (dk_at dksX8_sets_0 9 rfl rfl)
theorem dX8_sets_10 : decode cX8_sets 10 = .ok (.getfield 173, 3) := dk_180 0 173 (dk_at dksX8_sets_0 10 rfl rfl)
theorem dX8_sets_13 : decode cX8_sets 13 = .ok (.putfield 179, 3) := dk_181 0 179 (dk_at dksX8_sets_0 13 rfl rfl)
theorem dX8_sets_16 : decode cX8_sets 16 = .ok (.aload_n 0, 1) := dk_42 (dk_at dksX8_sets_0 16 rfl rfl)
theorem dX8_sets_17 : decode cX8_sets 17 = .ok (.aload_n 0, 1) := dk_42 (dk_at dksX8_sets_0 17 rfl rfl)
theorem dX8_sets_18 : decode cX8_sets 18 = .ok (.getfield 23, 3) := dk_180 0 23 (dk_at dksX8_sets_0 18 rfl rfl)
theorem dX8_sets_21 : decode cX8_sets 21 = .ok (.aload_n 0, 1) := dk_42 (dk_at dksX8_sets_0 21 rfl rfl)
theorem dX8_sets_22 : decode cX8_sets 22 = .ok (.getfield 35, 3) := dk_180 0 35 (dk_at dksX8_sets_1 0 rfl rfl)
theorem dX8_sets_25 : decode cX8_sets 25 = .ok (.bipush 12, 2) := dk_16 12 (dk_at dksX8_sets_1 3 rfl rfl)
theorem dX8_sets_27 : decode cX8_sets 27 = .ok (.invokevirtual 182, 3) := dk_182 0 182 (dk_at dksX8_sets_1 5 rfl rfl)
theorem dX8_sets_30 : decode cX8_sets 30 = .ok (.aload_n 0, 1) := dk_42 (dk_at dksX8_sets_1 8 rfl rfl)
theorem dX8_sets_31 : decode cX8_sets 31 = .ok (.aload_n 0, 1) := dk_42 (dk_at dksX8_sets_1 9 rfl rfl)
theorem dX8_sets_32 : decode cX8_sets 32 = .ok (.getfield 26, 3) := dk_180 0 26 (dk_at dksX8_sets_1 10 rfl rfl)
theorem dX8_sets_35 : decode cX8_sets 35 = .ok (.aload_n 0, 1) := dk_42 (dk_at dksX8_sets_1 13 rfl rfl)
theorem dX8_sets_36 : decode cX8_sets 36 = .ok (.getfield 38, 3) := dk_180 0 38 (dk_at dksX8_sets_1 14 rfl rfl)
theorem dX8_sets_39 : decode cX8_sets 39 = .ok (.bipush 14, 2) := dk_16 14 (dk_at dksX8_sets_1 17 rfl rfl)
theorem dX8_sets_41 : decode cX8_sets 41 = .ok (.invokevirtual 182, 3) := dk_182 0 182 (dk_at dksX8_sets_1 19 rfl rfl)
theorem dX8_sets_44 : decode cX8_sets 44 = .ok (.aload_n 0, 1) := dk_42 (dk_at dksX8_sets_1 22 rfl rfl)
theorem dX8_sets_45 : decode cX8_sets 45 = .ok (.aload_n 0, 1) := dk_42 (dk_at dksX8_sets_1 23 rfl rfl)
theorem dX8_sets_46 : decode cX8_sets 46 = .ok (.getfield 29, 3) := dk_180 0 29 (dk_at dksX8_sets_2 0 rfl rfl)
theorem dX8_sets_49 : decode cX8_sets 49 = .ok (.aload_n 0, 1) := dk_42 (dk_at dksX8_sets_2 3 rfl rfl)
theorem dX8_sets_50 : decode cX8_sets 50 = .ok (.getfield 41, 3) := dk_180 0 41 (dk_at dksX8_sets_2 4 rfl rfl)
theorem dX8_sets_53 : decode cX8_sets 53 = .ok (.bipush 7, 2) := dk_16 7 (dk_at dksX8_sets_2 7 rfl rfl)
theorem dX8_sets_55 : decode cX8_sets 55 = .ok (.invokevirtual 182, 3) := dk_182 0 182 (dk_at dksX8_sets_2 9 rfl rfl)
theorem dX8_sets_58 : decode cX8_sets 58 = .ok (.aload_n 0, 1) := dk_42 (dk_at dksX8_sets_2 12 rfl rfl)
theorem dX8_sets_59 : decode cX8_sets 59 = .ok (.aload_n 0, 1) := dk_42 (dk_at dksX8_sets_2 13 rfl rfl)
theorem dX8_sets_60 : decode cX8_sets 60 = .ok (.getfield 32, 3) := dk_180 0 32 (dk_at dksX8_sets_2 14 rfl rfl)
theorem dX8_sets_63 : decode cX8_sets 63 = .ok (.aload_n 0, 1) := dk_42 (dk_at dksX8_sets_2 17 rfl rfl)
theorem dX8_sets_64 : decode cX8_sets 64 = .ok (.getfield 44, 3) := dk_180 0 44 (dk_at dksX8_sets_2 18 rfl rfl)
theorem dX8_sets_67 : decode cX8_sets 67 = .ok (.bipush 12, 2) := dk_16 12 (dk_at dksX8_sets_2 21 rfl rfl)
theorem dX8_sets_69 : decode cX8_sets 69 = .ok (.invokevirtual 182, 3) := dk_182 0 182 (dk_at dksX8_sets_3 0 rfl rfl)
theorem dX8_sets_72 : decode cX8_sets 72 = .ok (.aload_n 0, 1) := dk_42 (dk_at dksX8_sets_3 3 rfl rfl)
theorem dX8_sets_73 : decode cX8_sets 73 = .ok (.iconst 0, 1) := dk_3 (dk_at dksX8_sets_3 4 rfl rfl)
theorem dX8_sets_74 : decode cX8_sets 74 = .ok (.putfield 186, 3) := dk_181 0 186 (dk_at dksX8_sets_3 5 rfl rfl)
theorem dX8_sets_77 : decode cX8_sets 77 = .ok (.aload_n 0, 1) := dk_42 (dk_at dksX8_sets_3 8 rfl rfl)
theorem dX8_sets_78 : decode cX8_sets 78 = .ok (.iconst 0, 1) := dk_3 (dk_at dksX8_sets_3 9 rfl rfl)
theorem dX8_sets_79 : decode cX8_sets 79 = .ok (.putfield 189, 3) := dk_181 0 189 (dk_at dksX8_sets_3 10 rfl rfl)
theorem dX8_sets_82 : decode cX8_sets 82 = .ok (.aload_n 0, 1) := dk_42 (dk_at dksX8_sets_3 13 rfl rfl)
theorem dX8_sets_83 : decode cX8_sets 83 = .ok (.iconst 0, 1) := dk_3 (dk_at dksX8_sets_3 14 rfl rfl)
theorem dX8_sets_84 : decode cX8_sets 84 = .ok (.putfield 192, 3) := dk_181 0 192 (dk_at dksX8_sets_3 15 rfl rfl)
theorem dX8_sets_87 : decode cX8_sets 87 = .ok (.aload_n 0, 1) := dk_42 (dk_at dksX8_sets_3 18 rfl rfl)
theorem dX8_sets_88 : decode cX8_sets 88 = .ok (.iconst 0, 1) := dk_3 (dk_at dksX8_sets_3 19 rfl rfl)
theorem dX8_sets_89 : decode cX8_sets 89 = .ok (.putfield 195, 3) := dk_181 0 195 (dk_at dksX8_sets_3 20 rfl rfl)
theorem dX8_sets_92 : decode cX8_sets 92 = .ok (.aload_n 0, 1) := dk_42 (dk_at dksX8_sets_3 23 rfl rfl)
theorem dX8_sets_93 : decode cX8_sets 93 = .ok (.iconst 0, 1) := dk_3 (dk_at dksX8_sets_4 0 rfl rfl)
theorem dX8_sets_94 : decode cX8_sets 94 = .ok (.putfield 198, 3) := dk_181 0 198 (dk_at dksX8_sets_4 1 rfl rfl)
theorem dX8_sets_97 : decode cX8_sets 97 = .ok (.iconst 0, 1) := dk_3 (dk_at dksX8_sets_4 4 rfl rfl)
theorem dX8_sets_98 : decode cX8_sets 98 = .ok (.istore_n 1, 1) := dk_60 (dk_at dksX8_sets_4 5 rfl rfl)
theorem dX8_sets_99 : decode cX8_sets 99 = .ok (.iload_n 1, 1) := dk_27 (dk_at dksX8_sets_4 6 rfl rfl)
theorem dX8_sets_100 : decode cX8_sets 100 = .ok (.bipush 12, 2) := dk_16 12 (dk_at dksX8_sets_4 7 rfl rfl)
theorem dX8_sets_102 : decode cX8_sets 102 = .ok (.if_icmp .gt 16, 3) := dk_163 0 16 (dk_at dksX8_sets_4 9 rfl rfl)
theorem dX8_sets_105 : decode cX8_sets 105 = .ok (.aload_n 0, 1) := dk_42 (dk_at dksX8_sets_4 12 rfl rfl)
theorem dX8_sets_106 : decode cX8_sets 106 = .ok (.getfield 89, 3) := dk_180 0 89 (dk_at dksX8_sets_4 13 rfl rfl)
theorem dX8_sets_109 : decode cX8_sets 109 = .ok (.iload_n 1, 1) := dk_27 (dk_at dksX8_sets_4 16 rfl rfl)
theorem dX8_sets_110 : decode cX8_sets 110 = .ok (.iconst (-1), 1) := dk_2 (dk_at dksX8_sets_4 17 rfl rfl)
theorem dX8_sets_111 : decode cX8_sets 111 = .ok (.iastore, 1) := dk_79 (dk_at dksX8_sets_4 18 rfl rfl)
theorem dX8_sets_112 : decode cX8_sets 112 = .ok (.iinc 1 1, 3) := dk_132 1 1 (dk_at dksX8_sets_4 19 rfl rfl)
theorem dX8_sets_115 : decode cX8_sets 115 = .ok (.goto (-16), 3) := dk_167 255 240 (dk_at dksX8_sets_5 0 rfl rfl)
theorem dX8_sets_118 : decode cX8_sets 118 = .ok (.iconst 0, 1) := dk_3 (dk_at dksX8_sets_5 3 rfl rfl)
theorem dX8_sets_119 : decode cX8_sets 119 = .ok (.istore_n 1, 1) := dk_60 (dk_at dksX8_sets_5 4 rfl rfl)
theorem dX8_sets_120 : decode cX8_sets 120 = .ok (.iload_n 1, 1) := dk_27 (dk_at dksX8_sets_5 5 rfl rfl)
theorem dX8_sets_121 : decode cX8_sets 121 = .ok (.bipush 50, 2) := dk_16 50 (dk_at dksX8_sets_5 6 rfl rfl)
theorem dX8_sets_123 : decode cX8_sets 123 = .ok (.if_icmp .ge 16, 3) := dk_162 0 16 (dk_at dksX8_sets_5 8 rfl rfl)
theorem dX8_sets_126 : decode cX8_sets 126 = .ok (.aload_n 0, 1) := dk_42 (dk_at dksX8_sets_5 11 rfl rfl)
theorem dX8_sets_127 : decode cX8_sets 127 = .ok (.getfield 71, 3) := dk_180 0 71 (dk_at dksX8_sets_5 12 rfl rfl)
theorem dX8_sets_130 : decode cX8_sets 130 = .ok (.iload_n 1, 1) := dk_27 (dk_at dksX8_sets_5 15 rfl rfl)
theorem dX8_sets_131 : decode cX8_sets 131 = .ok (.iconst 0, 1) := dk_3 (dk_at dksX8_sets_5 16 rfl rfl)
theorem dX8_sets_132 : decode cX8_sets 132 = .ok (.iastore, 1) := dk_79 (dk_at dksX8_sets_5 17 rfl rfl)
theorem dX8_sets_133 : decode cX8_sets 133 = .ok (.iinc 1 1, 3) := dk_132 1 1 (dk_at dksX8_sets_5 18 rfl rfl)
theorem dX8_sets_136 : decode cX8_sets 136 = .ok (.goto (-16), 3) := dk_167 255 240 (dk_at dksX8_sets_5 21 rfl rfl)
theorem dX8_sets_139 : decode cX8_sets 139 = .ok (.iconst 0, 1) := dk_3 (dk_at dksX8_sets_6 0 rfl rfl)
theorem dX8_sets_140 : decode cX8_sets 140 = .ok (.istore_n 1, 1) := dk_60 (dk_at dksX8_sets_6 1 rfl rfl)
theorem dX8_sets_141 : decode cX8_sets 141 = .ok (.iload_n 1, 1) := dk_27 (dk_at dksX8_sets_6 2 rfl rfl)
theorem dX8_sets_142 : decode cX8_sets 142 = .ok (.bipush 7, 2) := dk_16 7 (dk_at dksX8_sets_6 3 rfl rfl)
theorem dX8_sets_144 : decode cX8_sets 144 = .ok (.if_icmp .ge 110, 3) := dk_162 0 110 (dk_at dksX8_sets_6 5 rfl rfl)
theorem dX8_sets_147 : decode cX8_sets 147 = .ok (.aload_n 0, 1) := dk_42 (dk_at dksX8_sets_6 8 rfl rfl)
theorem dX8_sets_148 : decode cX8_sets 148 = .ok (.getfield 71, 3) := dk_180 0 71 (dk_at dksX8_sets_6 9 rfl rfl)
theorem dX8_sets_151 : decode cX8_sets 151 = .ok (.bipush 14, 2) := dk_16 14 (dk_at dksX8_sets_6 12 rfl rfl)
theorem dX8_sets_153 : decode cX8_sets 153 = .ok (.iload_n 1, 1) := dk_27 (dk_at dksX8_sets_6 14 rfl rfl)
theorem dX8_sets_154 : decode cX8_sets 154 = .ok (.iadd, 1) := dk_96 (dk_at dksX8_sets_6 15 rfl rfl)
theorem dX8_sets_155 : decode cX8_sets 155 = .ok (.iconst (-1), 1) := dk_2 (dk_at dksX8_sets_6 16 rfl rfl)
theorem dX8_sets_156 : decode cX8_sets 156 = .ok (.iastore, 1) := dk_79 (dk_at dksX8_sets_6 17 rfl rfl)
theorem dX8_sets_157 : decode cX8_sets 157 = .ok (.aload_n 0, 1) := dk_42 (dk_at dksX8_sets_6 18 rfl rfl)
theorem dX8_sets_158 : decode cX8_sets 158 = .ok (.getfield 71, 3) := dk_180 0 71 (dk_at dksX8_sets_6 19 rfl rfl)
theorem dX8_sets_161 : decode cX8_sets 161 = .ok (.bipush 28, 2) := dk_16 28 (dk_at dksX8_sets_6 22 rfl rfl)
theorem dX8_sets_163 : decode cX8_sets 163 = .ok (.iload_n 1, 1) := dk_27 (dk_at dksX8_sets_7 0 rfl rfl)
theorem dX8_sets_164 : decode cX8_sets 164 = .ok (.iadd, 1) := dk_96 (dk_at dksX8_sets_7 1 rfl rfl)
theorem dX8_sets_165 : decode cX8_sets 165 = .ok (.iconst (-1), 1) := dk_2 (dk_at dksX8_sets_7 2 rfl rfl)
theorem dX8_sets_166 : decode cX8_sets 166 = .ok (.iastore, 1) := dk_79 (dk_at dksX8_sets_7 3 rfl rfl)
theorem dX8_sets_167 : decode cX8_sets 167 = .ok (.aload_n 0, 1) := dk_42 (dk_at dksX8_sets_7 4 rfl rfl)
theorem dX8_sets_168 : decode cX8_sets 168 = .ok (.getfield 71, 3) := dk_180 0 71 (dk_at dksX8_sets_7 5 rfl rfl)
theorem dX8_sets_171 : decode cX8_sets 171 = .ok (.bipush 35, 2) := dk_16 35 (dk_at dksX8_sets_7 8 rfl rfl)
theorem dX8_sets_173 : decode cX8_sets 173 = .ok (.iload_n 1, 1) := dk_27 (dk_at dksX8_sets_7 10 rfl rfl)
theorem dX8_sets_174 : decode cX8_sets 174 = .ok (.iadd, 1) := dk_96 (dk_at dksX8_sets_7 11 rfl rfl)
theorem dX8_sets_175 : decode cX8_sets 175 = .ok (.iload_n 1, 1) := dk_27 (dk_at dksX8_sets_7 12 rfl rfl)
theorem dX8_sets_176 : decode cX8_sets 176 = .ok (.aload_n 0, 1) := dk_42 (dk_at dksX8_sets_7 13 rfl rfl)
theorem dX8_sets_177 : decode cX8_sets 177 = .ok (.getfield 179, 3) := dk_180 0 179 (dk_at dksX8_sets_7 14 rfl rfl)
theorem dX8_sets_180 : decode cX8_sets 180 = .ok (.if_icmp .ge 7, 3) := dk_162 0 7 (dk_at dksX8_sets_7 17 rfl rfl)
theorem dX8_sets_183 : decode cX8_sets 183 = .ok (.iconst 1, 1) := dk_4 (dk_at dksX8_sets_7 20 rfl rfl)
theorem dX8_sets_184 : decode cX8_sets 184 = .ok (.goto 4, 3) := dk_167 0 4 (dk_at dksX8_sets_7 21 rfl rfl)
theorem dX8_sets_187 : decode cX8_sets 187 = .ok (.iconst 0, 1) := dk_3 (dk_at dksX8_sets_8 0 rfl rfl)
theorem dX8_sets_188 : decode cX8_sets 188 = .ok (.iastore, 1) := dk_79 (dk_at dksX8_sets_8 1 rfl rfl)
theorem dX8_sets_189 : decode cX8_sets 189 = .ok (.aload_n 0, 1) := dk_42 (dk_at dksX8_sets_8 2 rfl rfl)
theorem dX8_sets_190 : decode cX8_sets 190 = .ok (.getfield 71, 3) := dk_180 0 71 (dk_at dksX8_sets_8 3 rfl rfl)
theorem dX8_sets_193 : decode cX8_sets 193 = .ok (.iconst 0, 1) := dk_3 (dk_at dksX8_sets_8 6 rfl rfl)
theorem dX8_sets_194 : decode cX8_sets 194 = .ok (.iload_n 1, 1) := dk_27 (dk_at dksX8_sets_8 7 rfl rfl)
theorem dX8_sets_195 : decode cX8_sets 195 = .ok (.iadd, 1) := dk_96 (dk_at dksX8_sets_8 8 rfl rfl)
theorem dX8_sets_196 : decode cX8_sets 196 = .ok (.iload_n 1, 1) := dk_27 (dk_at dksX8_sets_8 9 rfl rfl)
theorem dX8_sets_197 : decode cX8_sets 197 = .ok (.aload_n 0, 1) := dk_42 (dk_at dksX8_sets_8 10 rfl rfl)
theorem dX8_sets_198 : decode cX8_sets 198 = .ok (.getfield 179, 3) := dk_180 0 179 (dk_at dksX8_sets_8 11 rfl rfl)
theorem dX8_sets_201 : decode cX8_sets 201 = .ok (.if_icmp .ge 14, 3) := dk_162 0 14 (dk_at dksX8_sets_8 14 rfl rfl)
theorem dX8_sets_204 : decode cX8_sets 204 = .ok (.aload_n 0, 1) := dk_42 (dk_at dksX8_sets_8 17 rfl rfl)
theorem dX8_sets_205 : decode cX8_sets 205 = .ok (.getfield 38, 3) := dk_180 0 38 (dk_at dksX8_sets_8 18 rfl rfl)
theorem dX8_sets_208 : decode cX8_sets 208 = .ok (.iconst 2, 1) := dk_5 (dk_at dksX8_sets_8 21 rfl rfl)
theorem dX8_sets_209 : decode cX8_sets 209 = .ok (.iload_n 1, 1) := dk_27 (dk_at dksX8_sets_8 22 rfl rfl)
theorem dX8_sets_210 : decode cX8_sets 210 = .ok (.imul, 1) := dk_104 (dk_at dksX8_sets_8 23 rfl rfl)
theorem dX8_sets_211 : decode cX8_sets 211 = .ok (.iaload, 1) := dk_46 (dk_at dksX8_sets_9 0 rfl rfl)
theorem dX8_sets_212 : decode cX8_sets 212 = .ok (.goto 4, 3) := dk_167 0 4 (dk_at dksX8_sets_9 1 rfl rfl)
theorem dX8_sets_215 : decode cX8_sets 215 = .ok (.iconst 0, 1) := dk_3 (dk_at dksX8_sets_9 4 rfl rfl)
theorem dX8_sets_216 : decode cX8_sets 216 = .ok (.iastore, 1) := dk_79 (dk_at dksX8_sets_9 5 rfl rfl)
theorem dX8_sets_217 : decode cX8_sets 217 = .ok (.aload_n 0, 1) := dk_42 (dk_at dksX8_sets_9 6 rfl rfl)
theorem dX8_sets_218 : decode cX8_sets 218 = .ok (.getfield 71, 3) := dk_180 0 71 (dk_at dksX8_sets_9 7 rfl rfl)
theorem dX8_sets_221 : decode cX8_sets 221 = .ok (.bipush 7, 2) := dk_16 7 (dk_at dksX8_sets_9 10 rfl rfl)
theorem dX8_sets_223 : decode cX8_sets 223 = .ok (.iload_n 1, 1) := dk_27 (dk_at dksX8_sets_9 12 rfl rfl)
theorem dX8_sets_224 : decode cX8_sets 224 = .ok (.iadd, 1) := dk_96 (dk_at dksX8_sets_9 13 rfl rfl)
theorem dX8_sets_225 : decode cX8_sets 225 = .ok (.iload_n 1, 1) := dk_27 (dk_at dksX8_sets_9 14 rfl rfl)
theorem dX8_sets_226 : decode cX8_sets 226 = .ok (.aload_n 0, 1) := dk_42 (dk_at dksX8_sets_9 15 rfl rfl)
theorem dX8_sets_227 : decode cX8_sets 227 = .ok (.getfield 179, 3) := dk_180 0 179 (dk_at dksX8_sets_9 16 rfl rfl)
theorem dX8_sets_230 : decode cX8_sets 230 = .ok (.if_icmp .ge 16, 3) := dk_162 0 16 (dk_at dksX8_sets_9 19 rfl rfl)
theorem dX8_sets_233 : decode cX8_sets 233 = .ok (.aload_n 0, 1) := dk_42 (dk_at dksX8_sets_9 22 rfl rfl)
theorem dX8_sets_234 : decode cX8_sets 234 = .ok (.getfield 38, 3) := dk_180 0 38 (dk_at dksX8_sets_10 0 rfl rfl)
theorem dX8_sets_237 : decode cX8_sets 237 = .ok (.iconst 2, 1) := dk_5 (dk_at dksX8_sets_10 3 rfl rfl)
theorem dX8_sets_238 : decode cX8_sets 238 = .ok (.iload_n 1, 1) := dk_27 (dk_at dksX8_sets_10 4 rfl rfl)
theorem dX8_sets_239 : decode cX8_sets 239 = .ok (.imul, 1) := dk_104 (dk_at dksX8_sets_10 5 rfl rfl)
theorem dX8_sets_240 : decode cX8_sets 240 = .ok (.iconst 1, 1) := dk_4 (dk_at dksX8_sets_10 6 rfl rfl)
theorem dX8_sets_241 : decode cX8_sets 241 = .ok (.iadd, 1) := dk_96 (dk_at dksX8_sets_10 7 rfl rfl)
theorem dX8_sets_242 : decode cX8_sets 242 = .ok (.iaload, 1) := dk_46 (dk_at dksX8_sets_10 8 rfl rfl)
theorem dX8_sets_243 : decode cX8_sets 243 = .ok (.goto 4, 3) := dk_167 0 4 (dk_at dksX8_sets_10 9 rfl rfl)
theorem dX8_sets_246 : decode cX8_sets 246 = .ok (.iconst 0, 1) := dk_3 (dk_at dksX8_sets_10 12 rfl rfl)
theorem dX8_sets_247 : decode cX8_sets 247 = .ok (.iastore, 1) := dk_79 (dk_at dksX8_sets_10 13 rfl rfl)
theorem dX8_sets_248 : decode cX8_sets 248 = .ok (.iinc 1 1, 3) := dk_132 1 1 (dk_at dksX8_sets_10 14 rfl rfl)
theorem dX8_sets_251 : decode cX8_sets 251 = .ok (.goto (-110), 3) := dk_167 255 146 (dk_at dksX8_sets_10 17 rfl rfl)
theorem dX8_sets_254 : decode cX8_sets 254 = .ok (.iconst 0, 1) := dk_3 (dk_at dksX8_sets_10 20 rfl rfl)
theorem dX8_sets_255 : decode cX8_sets 255 = .ok (.istore_n 1, 1) := dk_60 (dk_at dksX8_sets_10 21 rfl rfl)
theorem dX8_sets_256 : decode cX8_sets 256 = .ok (.iload_n 1, 1) := dk_27 (dk_at dksX8_sets_10 22 rfl rfl)
theorem dX8_sets_257 : decode cX8_sets 257 = .ok (.aload_n 0, 1) := dk_42 (dk_at dksX8_sets_10 23 rfl rfl)
theorem dX8_sets_258 : decode cX8_sets 258 = .ok (.getfield 176, 3) := dk_180 0 176 (dk_at dksX8_sets_11 0 rfl rfl)
theorem dX8_sets_261 : decode cX8_sets 261 = .ok (.if_icmp .ge 26, 3) := dk_162 0 26 (dk_at dksX8_sets_11 3 rfl rfl)
theorem dX8_sets_264 : decode cX8_sets 264 = .ok (.aload_n 0, 1) := dk_42 (dk_at dksX8_sets_11 6 rfl rfl)
theorem dX8_sets_265 : decode cX8_sets 265 = .ok (.getfield 71, 3) := dk_180 0 71 (dk_at dksX8_sets_11 7 rfl rfl)
theorem dX8_sets_268 : decode cX8_sets 268 = .ok (.bipush 42, 2) := dk_16 42 (dk_at dksX8_sets_11 10 rfl rfl)
theorem dX8_sets_270 : decode cX8_sets 270 = .ok (.iload_n 1, 1) := dk_27 (dk_at dksX8_sets_11 12 rfl rfl)
theorem dX8_sets_271 : decode cX8_sets 271 = .ok (.iadd, 1) := dk_96 (dk_at dksX8_sets_11 13 rfl rfl)
theorem dX8_sets_272 : decode cX8_sets 272 = .ok (.aload_n 0, 1) := dk_42 (dk_at dksX8_sets_11 14 rfl rfl)
theorem dX8_sets_273 : decode cX8_sets 273 = .ok (.getfield 35, 3) := dk_180 0 35 (dk_at dksX8_sets_11 15 rfl rfl)
theorem dX8_sets_276 : decode cX8_sets 276 = .ok (.iconst 2, 1) := dk_5 (dk_at dksX8_sets_11 18 rfl rfl)
theorem dX8_sets_277 : decode cX8_sets 277 = .ok (.iload_n 1, 1) := dk_27 (dk_at dksX8_sets_11 19 rfl rfl)
theorem dX8_sets_278 : decode cX8_sets 278 = .ok (.imul, 1) := dk_104 (dk_at dksX8_sets_11 20 rfl rfl)
theorem dX8_sets_279 : decode cX8_sets 279 = .ok (.iaload, 1) := dk_46 (dk_at dksX8_sets_11 21 rfl rfl)
theorem dX8_sets_280 : decode cX8_sets 280 = .ok (.iastore, 1) := dk_79 (dk_at dksX8_sets_11 22 rfl rfl)
theorem dX8_sets_281 : decode cX8_sets 281 = .ok (.iinc 1 1, 3) := dk_132 1 1 (dk_at dksX8_sets_12 0 rfl rfl)
theorem dX8_sets_284 : decode cX8_sets 284 = .ok (.goto (-28), 3) := dk_167 255 228 (dk_at dksX8_sets_12 3 rfl rfl)
theorem dX8_sets_287 : decode cX8_sets 287 = .ok (.return_, 1) := dk_177 (dk_at dksX8_sets_12 6 rfl rfl)
abbrev cX8_copies : ByteArray := prog_24_method_20_code
def yX8_copies : MethodName := ⟨RX8, "copies", "([I[II)V"⟩
def dkwX8_copies_0 : List UInt8 := [3, 54, 4, 21, 4, 29, 162, 0, 17, 44, 21, 4, 43, 21, 4, 46, 79, 132, 4, 1, 167, 255, 239, 177]
abbrev dktX8_copies_0 : List UInt8 := dkwX8_copies_0 ++ []
theorem dksX8_copies_0 : cX8_copies.data.toList.drop 0 = dktX8_copies_0 := by decide +kernel
theorem dX8_copies_0 : decode cX8_copies 0 = .ok (.iconst 0, 1) := dk_3 (dk_at dksX8_copies_0 0 rfl rfl)
theorem dX8_copies_1 : decode cX8_copies 1 = .ok (.istore 4, 2) := dk_54 4 (dk_at dksX8_copies_0 1 rfl rfl)
theorem dX8_copies_3 : decode cX8_copies 3 = .ok (.iload 4, 2) := dk_21 4 (dk_at dksX8_copies_0 3 rfl rfl)
theorem dX8_copies_5 : decode cX8_copies 5 = .ok (.iload_n 3, 1) := dk_29 (dk_at dksX8_copies_0 5 rfl rfl)
theorem dX8_copies_6 : decode cX8_copies 6 = .ok (.if_icmp .ge 17, 3) := dk_162 0 17 (dk_at dksX8_copies_0 6 rfl rfl)
theorem dX8_copies_9 : decode cX8_copies 9 = .ok (.aload_n 2, 1) := dk_44 (dk_at dksX8_copies_0 9 rfl rfl)
theorem dX8_copies_10 : decode cX8_copies 10 = .ok (.iload 4, 2) := dk_21 4 (dk_at dksX8_copies_0 10 rfl rfl)
theorem dX8_copies_12 : decode cX8_copies 12 = .ok (.aload_n 1, 1) := dk_43 (dk_at dksX8_copies_0 12 rfl rfl)
theorem dX8_copies_13 : decode cX8_copies 13 = .ok (.iload 4, 2) := dk_21 4 (dk_at dksX8_copies_0 13 rfl rfl)
theorem dX8_copies_15 : decode cX8_copies 15 = .ok (.iaload, 1) := dk_46 (dk_at dksX8_copies_0 15 rfl rfl)
theorem dX8_copies_16 : decode cX8_copies 16 = .ok (.iastore, 1) := dk_79 (dk_at dksX8_copies_0 16 rfl rfl)
theorem dX8_copies_17 : decode cX8_copies 17 = .ok (.iinc 4 1, 3) := dk_132 4 1 (dk_at dksX8_copies_0 17 rfl rfl)
theorem dX8_copies_20 : decode cX8_copies 20 = .ok (.goto (-17), 3) := dk_167 255 239 (dk_at dksX8_copies_0 20 rfl rfl)
theorem dX8_copies_23 : decode cX8_copies 23 = .ok (.return_, 1) := dk_177 (dk_at dksX8_copies_0 23 rfl rfl)
abbrev cX8_feed : ByteArray := prog_24_method_5_code
def yX8_feed : MethodName := ⟨RX8, "feed", "(IIIII)I"⟩
def dkwX8_feed_5 : List UInt8 := [167, 255, 162, 42, 180, 0, 124, 172]
abbrev dktX8_feed_5 : List UInt8 := dkwX8_feed_5 ++ []
def dkwX8_feed_4 : List UInt8 := [112, 104, 100, 122, 17, 0, 255, 126, 79, 42, 89, 180, 0, 124, 4, 96, 181, 0, 124, 132, 6, 1]
abbrev dktX8_feed_4 : List UInt8 := dkwX8_feed_4 ++ dktX8_feed_5
def dkwX8_feed_3 : List UInt8 := [167, 0, 5, 21, 5, 54, 7, 42, 180, 0, 20, 42, 180, 0, 124, 21, 7, 16, 24, 16, 8, 21, 6, 7]
abbrev dktX8_feed_3 : List UInt8 := dkwX8_feed_3 ++ dktX8_feed_4
def dkwX8_feed_2 : List UInt8 := [28, 167, 0, 28, 21, 6, 16, 12, 162, 0, 7, 29, 167, 0, 17, 21, 6, 16, 16, 162, 0, 8, 21, 4]
abbrev dktX8_feed_2 : List UInt8 := dkwX8_feed_2 ++ dktX8_feed_3
def dkwX8_feed_1 : List UInt8 := [21, 6, 16, 20, 162, 0, 93, 21, 6, 7, 162, 0, 7, 27, 167, 0, 39, 21, 6, 16, 8, 162, 0, 7]
abbrev dktX8_feed_1 : List UInt8 := dkwX8_feed_1 ++ dktX8_feed_2
def dkwX8_feed_0 : List UInt8 := [42, 3, 181, 0, 3, 42, 180, 0, 124, 16, 20, 96, 17, 2, 88, 164, 0, 5, 2, 172, 3, 54, 6]
abbrev dktX8_feed_0 : List UInt8 := dkwX8_feed_0 ++ dktX8_feed_1
theorem dksX8_feed_0 : cX8_feed.data.toList.drop 0 = dktX8_feed_0 := by decide +kernel
theorem dksX8_feed_1 : cX8_feed.data.toList.drop 23 = dktX8_feed_1 := dk_seg dksX8_feed_0 23 rfl rfl
theorem dksX8_feed_2 : cX8_feed.data.toList.drop 47 = dktX8_feed_2 := dk_seg dksX8_feed_1 24 rfl rfl
theorem dksX8_feed_3 : cX8_feed.data.toList.drop 71 = dktX8_feed_3 := dk_seg dksX8_feed_2 24 rfl rfl
theorem dksX8_feed_4 : cX8_feed.data.toList.drop 95 = dktX8_feed_4 := dk_seg dksX8_feed_3 24 rfl rfl
theorem dksX8_feed_5 : cX8_feed.data.toList.drop 117 = dktX8_feed_5 := dk_seg dksX8_feed_4 22 rfl rfl
theorem dX8_feed_0 : decode cX8_feed 0 = .ok (.aload_n 0, 1) := dk_42 (dk_at dksX8_feed_0 0 rfl rfl)
theorem dX8_feed_1 : decode cX8_feed 1 = .ok (.iconst 0, 1) := dk_3 (dk_at dksX8_feed_0 1 rfl rfl)
theorem dX8_feed_2 : decode cX8_feed 2 = .ok (.putfield 3, 3) := dk_181 0 3 (dk_at dksX8_feed_0 2 rfl rfl)
theorem dX8_feed_5 : decode cX8_feed 5 = .ok (.aload_n 0, 1) := dk_42 (dk_at dksX8_feed_0 5 rfl rfl)
theorem dX8_feed_6 : decode cX8_feed 6 = .ok (.getfield 124, 3) := dk_180 0 124 (dk_at dksX8_feed_0 6 rfl rfl)
theorem dX8_feed_9 : decode cX8_feed 9 = .ok (.bipush 20, 2) := dk_16 20 (dk_at dksX8_feed_0 9 rfl rfl)
theorem dX8_feed_11 : decode cX8_feed 11 = .ok (.iadd, 1) := dk_96 (dk_at dksX8_feed_0 11 rfl rfl)
theorem dX8_feed_12 : decode cX8_feed 12 = .ok (.sipush 600, 3) := dk_17 2 88 (dk_at dksX8_feed_0 12 rfl rfl)
theorem dX8_feed_15 : decode cX8_feed 15 = .ok (.if_icmp .le 5, 3) := dk_164 0 5 (dk_at dksX8_feed_0 15 rfl rfl)
theorem dX8_feed_18 : decode cX8_feed 18 = .ok (.iconst (-1), 1) := dk_2 (dk_at dksX8_feed_0 18 rfl rfl)
theorem dX8_feed_19 : decode cX8_feed 19 = .ok (.ireturn, 1) := dk_172 (dk_at dksX8_feed_0 19 rfl rfl)
theorem dX8_feed_20 : decode cX8_feed 20 = .ok (.iconst 0, 1) := dk_3 (dk_at dksX8_feed_0 20 rfl rfl)
theorem dX8_feed_21 : decode cX8_feed 21 = .ok (.istore 6, 2) := dk_54 6 (dk_at dksX8_feed_0 21 rfl rfl)
theorem dX8_feed_23 : decode cX8_feed 23 = .ok (.iload 6, 2) := dk_21 6 (dk_at dksX8_feed_1 0 rfl rfl)
theorem dX8_feed_25 : decode cX8_feed 25 = .ok (.bipush 20, 2) := dk_16 20 (dk_at dksX8_feed_1 2 rfl rfl)
theorem dX8_feed_27 : decode cX8_feed 27 = .ok (.if_icmp .ge 93, 3) := dk_162 0 93 (dk_at dksX8_feed_1 4 rfl rfl)
theorem dX8_feed_30 : decode cX8_feed 30 = .ok (.iload 6, 2) := dk_21 6 (dk_at dksX8_feed_1 7 rfl rfl)
theorem dX8_feed_32 : decode cX8_feed 32 = .ok (.iconst 4, 1) := dk_7 (dk_at dksX8_feed_1 9 rfl rfl)
theorem dX8_feed_33 : decode cX8_feed 33 = .ok (.if_icmp .ge 7, 3) := dk_162 0 7 (dk_at dksX8_feed_1 10 rfl rfl)
theorem dX8_feed_36 : decode cX8_feed 36 = .ok (.iload_n 1, 1) := dk_27 (dk_at dksX8_feed_1 13 rfl rfl)
theorem dX8_feed_37 : decode cX8_feed 37 = .ok (.goto 39, 3) := dk_167 0 39 (dk_at dksX8_feed_1 14 rfl rfl)
theorem dX8_feed_40 : decode cX8_feed 40 = .ok (.iload 6, 2) := dk_21 6 (dk_at dksX8_feed_1 17 rfl rfl)
theorem dX8_feed_42 : decode cX8_feed 42 = .ok (.bipush 8, 2) := dk_16 8 (dk_at dksX8_feed_1 19 rfl rfl)
theorem dX8_feed_44 : decode cX8_feed 44 = .ok (.if_icmp .ge 7, 3) := dk_162 0 7 (dk_at dksX8_feed_1 21 rfl rfl)
theorem dX8_feed_47 : decode cX8_feed 47 = .ok (.iload_n 2, 1) := dk_28 (dk_at dksX8_feed_2 0 rfl rfl)
theorem dX8_feed_48 : decode cX8_feed 48 = .ok (.goto 28, 3) := dk_167 0 28 (dk_at dksX8_feed_2 1 rfl rfl)
theorem dX8_feed_51 : decode cX8_feed 51 = .ok (.iload 6, 2) := dk_21 6 (dk_at dksX8_feed_2 4 rfl rfl)
theorem dX8_feed_53 : decode cX8_feed 53 = .ok (.bipush 12, 2) := dk_16 12 (dk_at dksX8_feed_2 6 rfl rfl)
theorem dX8_feed_55 : decode cX8_feed 55 = .ok (.if_icmp .ge 7, 3) := dk_162 0 7 (dk_at dksX8_feed_2 8 rfl rfl)
theorem dX8_feed_58 : decode cX8_feed 58 = .ok (.iload_n 3, 1) := dk_29 (dk_at dksX8_feed_2 11 rfl rfl)
theorem dX8_feed_59 : decode cX8_feed 59 = .ok (.goto 17, 3) := dk_167 0 17 (dk_at dksX8_feed_2 12 rfl rfl)
theorem dX8_feed_62 : decode cX8_feed 62 = .ok (.iload 6, 2) := dk_21 6 (dk_at dksX8_feed_2 15 rfl rfl)
theorem dX8_feed_64 : decode cX8_feed 64 = .ok (.bipush 16, 2) := dk_16 16 (dk_at dksX8_feed_2 17 rfl rfl)
theorem dX8_feed_66 : decode cX8_feed 66 = .ok (.if_icmp .ge 8, 3) := dk_162 0 8 (dk_at dksX8_feed_2 19 rfl rfl)
theorem dX8_feed_69 : decode cX8_feed 69 = .ok (.iload 4, 2) := dk_21 4 (dk_at dksX8_feed_2 22 rfl rfl)
theorem dX8_feed_71 : decode cX8_feed 71 = .ok (.goto 5, 3) := dk_167 0 5 (dk_at dksX8_feed_3 0 rfl rfl)
theorem dX8_feed_74 : decode cX8_feed 74 = .ok (.iload 5, 2) := dk_21 5 (dk_at dksX8_feed_3 3 rfl rfl)
theorem dX8_feed_76 : decode cX8_feed 76 = .ok (.istore 7, 2) := dk_54 7 (dk_at dksX8_feed_3 5 rfl rfl)
theorem dX8_feed_78 : decode cX8_feed 78 = .ok (.aload_n 0, 1) := dk_42 (dk_at dksX8_feed_3 7 rfl rfl)
theorem dX8_feed_79 : decode cX8_feed 79 = .ok (.getfield 20, 3) := dk_180 0 20 (dk_at dksX8_feed_3 8 rfl rfl)
theorem dX8_feed_82 : decode cX8_feed 82 = .ok (.aload_n 0, 1) := dk_42 (dk_at dksX8_feed_3 11 rfl rfl)
theorem dX8_feed_83 : decode cX8_feed 83 = .ok (.getfield 124, 3) := dk_180 0 124 (dk_at dksX8_feed_3 12 rfl rfl)
theorem dX8_feed_86 : decode cX8_feed 86 = .ok (.iload 7, 2) := dk_21 7 (dk_at dksX8_feed_3 15 rfl rfl)
theorem dX8_feed_88 : decode cX8_feed 88 = .ok (.bipush 24, 2) := dk_16 24 (dk_at dksX8_feed_3 17 rfl rfl)
theorem dX8_feed_90 : decode cX8_feed 90 = .ok (.bipush 8, 2) := dk_16 8 (dk_at dksX8_feed_3 19 rfl rfl)
theorem dX8_feed_92 : decode cX8_feed 92 = .ok (.iload 6, 2) := dk_21 6 (dk_at dksX8_feed_3 21 rfl rfl)
theorem dX8_feed_94 : decode cX8_feed 94 = .ok (.iconst 4, 1) := dk_7 (dk_at dksX8_feed_3 23 rfl rfl)
theorem dX8_feed_95 : decode cX8_feed 95 = .ok (.irem, 1) := dk_112 (dk_at dksX8_feed_4 0 rfl rfl)
theorem dX8_feed_96 : decode cX8_feed 96 = .ok (.imul, 1) := dk_104 (dk_at dksX8_feed_4 1 rfl rfl)
theorem dX8_feed_97 : decode cX8_feed 97 = .ok (.isub, 1) := dk_100 (dk_at dksX8_feed_4 2 rfl rfl)
theorem dX8_feed_98 : decode cX8_feed 98 = .ok (.ishr, 1) := dk_122 (dk_at dksX8_feed_4 3 rfl rfl)
theorem dX8_feed_99 : decode cX8_feed 99 = .ok (.sipush 255, 3) := dk_17 0 255 (dk_at dksX8_feed_4 4 rfl rfl)
theorem dX8_feed_102 : decode cX8_feed 102 = .ok (.iand, 1) := dk_126 (dk_at dksX8_feed_4 7 rfl rfl)
theorem dX8_feed_103 : decode cX8_feed 103 = .ok (.iastore, 1) := dk_79 (dk_at dksX8_feed_4 8 rfl rfl)
theorem dX8_feed_104 : decode cX8_feed 104 = .ok (.aload_n 0, 1) := dk_42 (dk_at dksX8_feed_4 9 rfl rfl)
theorem dX8_feed_105 : decode cX8_feed 105 = .ok (.dup, 1) := dk_89 (dk_at dksX8_feed_4 10 rfl rfl)
theorem dX8_feed_106 : decode cX8_feed 106 = .ok (.getfield 124, 3) := dk_180 0 124 (dk_at dksX8_feed_4 11 rfl rfl)
theorem dX8_feed_109 : decode cX8_feed 109 = .ok (.iconst 1, 1) := dk_4 (dk_at dksX8_feed_4 14 rfl rfl)
theorem dX8_feed_110 : decode cX8_feed 110 = .ok (.iadd, 1) := dk_96 (dk_at dksX8_feed_4 15 rfl rfl)
theorem dX8_feed_111 : decode cX8_feed 111 = .ok (.putfield 124, 3) := dk_181 0 124 (dk_at dksX8_feed_4 16 rfl rfl)
theorem dX8_feed_114 : decode cX8_feed 114 = .ok (.iinc 6 1, 3) := dk_132 6 1 (dk_at dksX8_feed_4 19 rfl rfl)
theorem dX8_feed_117 : decode cX8_feed 117 = .ok (.goto (-94), 3) := dk_167 255 162 (dk_at dksX8_feed_5 0 rfl rfl)
theorem dX8_feed_120 : decode cX8_feed 120 = .ok (.aload_n 0, 1) := dk_42 (dk_at dksX8_feed_5 3 rfl rfl)
theorem dX8_feed_121 : decode cX8_feed 121 = .ok (.getfield 124, 3) := dk_180 0 124 (dk_at dksX8_feed_5 4 rfl rfl)
theorem dX8_feed_124 : decode cX8_feed 124 = .ok (.ireturn, 1) := dk_172 (dk_at dksX8_feed_5 7 rfl rfl)
abbrev cX8_fault : ByteArray := prog_24_method_19_code
def yX8_fault : MethodName := ⟨RX8, "fault", "()I"⟩
def dkwX8_fault_0 : List UInt8 := [42, 3, 181, 0, 3, 42, 180, 0, 17, 172]
abbrev dktX8_fault_0 : List UInt8 := dkwX8_fault_0 ++ []
theorem dksX8_fault_0 : cX8_fault.data.toList.drop 0 = dktX8_fault_0 := by decide +kernel
theorem dX8_fault_0 : decode cX8_fault 0 = .ok (.aload_n 0, 1) := dk_42 (dk_at dksX8_fault_0 0 rfl rfl)
theorem dX8_fault_1 : decode cX8_fault 1 = .ok (.iconst 0, 1) := dk_3 (dk_at dksX8_fault_0 1 rfl rfl)
theorem dX8_fault_2 : decode cX8_fault 2 = .ok (.putfield 3, 3) := dk_181 0 3 (dk_at dksX8_fault_0 2 rfl rfl)
theorem dX8_fault_5 : decode cX8_fault 5 = .ok (.aload_n 0, 1) := dk_42 (dk_at dksX8_fault_0 5 rfl rfl)
theorem dX8_fault_6 : decode cX8_fault 6 = .ok (.getfield 17, 3) := dk_180 0 17 (dk_at dksX8_fault_0 6 rfl rfl)
theorem dX8_fault_9 : decode cX8_fault 9 = .ok (.ireturn, 1) := dk_172 (dk_at dksX8_fault_0 9 rfl rfl)
abbrev cX8_school : ByteArray := prog_24_method_26_code
def yX8_school : MethodName := ⟨RX8, "school", "(I)I"⟩
def dkwX8_school_7 : List UInt8 := [42, 42, 180, 0, 173, 182, 0, 242, 62, 42, 180, 0, 127, 2, 160, 0, 7, 42, 182, 0, 121, 29, 172]
abbrev dktX8_school_7 : List UInt8 := dkwX8_school_7 ++ []
def dkwX8_school_6 : List UInt8 := [167, 0, 24, 42, 182, 0, 233, 42, 29, 182, 0, 236, 42, 16, 59, 182, 0, 239, 132, 2, 1, 167, 255, 139]
abbrev dktX8_school_6 : List UInt8 := dkwX8_school_6 ++ dktX8_school_7
def dkwX8_school_5 : List UInt8 := [180, 0, 173, 16, 7, 160, 0, 12, 42, 6, 42, 180, 0, 133, 182, 0, 163, 42, 182, 0, 156, 154, 0, 6]
abbrev dktX8_school_5 : List UInt8 := dkwX8_school_5 ++ dktX8_school_6
def dkwX8_school_4 : List UInt8 := [160, 0, 12, 42, 180, 0, 170, 16, 6, 159, 0, 21, 29, 18, 210, 184, 0, 206, 160, 0, 21, 42]
abbrev dktX8_school_4 : List UInt8 := dkwX8_school_4 ++ dktX8_school_5
def dkwX8_school_3 : List UInt8 := [42, 180, 0, 133, 182, 0, 163, 167, 0, 54, 28, 16, 60, 159, 0, 39, 29, 18, 205, 184, 0, 206]
abbrev dktX8_school_3 : List UInt8 := dkwX8_school_3 ++ dktX8_school_4
def dkwX8_school_2 : List UInt8 := [153, 0, 116, 42, 182, 0, 224, 153, 0, 109, 42, 182, 0, 227, 62, 29, 184, 0, 230, 154, 0, 15, 42, 4]
abbrev dktX8_school_2 : List UInt8 := dkwX8_school_2 ++ dktX8_school_3
def dkwX8_school_1 : List UInt8 := [4, 182, 0, 216, 154, 0, 5, 3, 172, 42, 27, 182, 0, 220, 42, 182, 0, 118, 3, 61, 42, 182, 0, 156]
abbrev dktX8_school_1 : List UInt8 := dkwX8_school_1 ++ dktX8_school_2
def dkwX8_school_0 : List UInt8 := [42, 3, 181, 0, 3, 42, 27, 155, 0, 15, 27, 42, 180, 0, 124, 163, 0, 7, 4, 167, 0, 4, 3, 4]
abbrev dktX8_school_0 : List UInt8 := dkwX8_school_0 ++ dktX8_school_1
theorem dksX8_school_0 : cX8_school.data.toList.drop 0 = dktX8_school_0 := by decide +kernel
theorem dksX8_school_1 : cX8_school.data.toList.drop 24 = dktX8_school_1 := dk_seg dksX8_school_0 24 rfl rfl
theorem dksX8_school_2 : cX8_school.data.toList.drop 48 = dktX8_school_2 := dk_seg dksX8_school_1 24 rfl rfl
theorem dksX8_school_3 : cX8_school.data.toList.drop 72 = dktX8_school_3 := dk_seg dksX8_school_2 24 rfl rfl
theorem dksX8_school_4 : cX8_school.data.toList.drop 94 = dktX8_school_4 := dk_seg dksX8_school_3 22 rfl rfl
theorem dksX8_school_5 : cX8_school.data.toList.drop 116 = dktX8_school_5 := dk_seg dksX8_school_4 22 rfl rfl
theorem dksX8_school_6 : cX8_school.data.toList.drop 140 = dktX8_school_6 := dk_seg dksX8_school_5 24 rfl rfl
theorem dksX8_school_7 : cX8_school.data.toList.drop 164 = dktX8_school_7 := dk_seg dksX8_school_6 24 rfl rfl
theorem dX8_school_0 : decode cX8_school 0 = .ok (.aload_n 0, 1) := dk_42 (dk_at dksX8_school_0 0 rfl rfl)
theorem dX8_school_1 : decode cX8_school 1 = .ok (.iconst 0, 1) := dk_3 (dk_at dksX8_school_0 1 rfl rfl)
theorem dX8_school_2 : decode cX8_school 2 = .ok (.putfield 3, 3) := dk_181 0 3 (dk_at dksX8_school_0 2 rfl rfl)
theorem dX8_school_5 : decode cX8_school 5 = .ok (.aload_n 0, 1) := dk_42 (dk_at dksX8_school_0 5 rfl rfl)
theorem dX8_school_6 : decode cX8_school 6 = .ok (.iload_n 1, 1) := dk_27 (dk_at dksX8_school_0 6 rfl rfl)
theorem dX8_school_7 : decode cX8_school 7 = .ok (.ifCond .lt 15, 3) := dk_155 0 15 (dk_at dksX8_school_0 7 rfl rfl)
theorem dX8_school_10 : decode cX8_school 10 = .ok (.iload_n 1, 1) := dk_27 (dk_at dksX8_school_0 10 rfl rfl)
theorem dX8_school_11 : decode cX8_school 11 = .ok (.aload_n 0, 1) := dk_42 (dk_at dksX8_school_0 11 rfl rfl)
theorem dX8_school_12 : decode cX8_school 12 = .ok (.getfield 124, 3) := dk_180 0 124 (dk_at dksX8_school_0 12 rfl rfl)
theorem dX8_school_15 : decode cX8_school 15 = .ok (.if_icmp .gt 7, 3) := dk_163 0 7 (dk_at dksX8_school_0 15 rfl rfl)
theorem dX8_school_18 : decode cX8_school 18 = .ok (.iconst 1, 1) := dk_4 (dk_at dksX8_school_0 18 rfl rfl)
theorem dX8_school_19 : decode cX8_school 19 = .ok (.goto 4, 3) := dk_167 0 4 (dk_at dksX8_school_0 19 rfl rfl)
theorem dX8_school_22 : decode cX8_school 22 = .ok (.iconst 0, 1) := dk_3 (dk_at dksX8_school_0 22 rfl rfl)
theorem dX8_school_23 : decode cX8_school 23 = .ok (.iconst 1, 1) := dk_4 (dk_at dksX8_school_0 23 rfl rfl)
theorem dX8_school_24 : decode cX8_school 24 = .ok (.iconst 1, 1) := dk_4 (dk_at dksX8_school_1 0 rfl rfl)
theorem dX8_school_25 : decode cX8_school 25 = .ok (.invokevirtual 216, 3) := dk_182 0 216 (dk_at dksX8_school_1 1 rfl rfl)
theorem dX8_school_28 : decode cX8_school 28 = .ok (.ifCond .ne 5, 3) := dk_154 0 5 (dk_at dksX8_school_1 4 rfl rfl)
theorem dX8_school_31 : decode cX8_school 31 = .ok (.iconst 0, 1) := dk_3 (dk_at dksX8_school_1 7 rfl rfl)
theorem dX8_school_32 : decode cX8_school 32 = .ok (.ireturn, 1) := dk_172 (dk_at dksX8_school_1 8 rfl rfl)
theorem dX8_school_33 : decode cX8_school 33 = .ok (.aload_n 0, 1) := dk_42 (dk_at dksX8_school_1 9 rfl rfl)
theorem dX8_school_34 : decode cX8_school 34 = .ok (.iload_n 1, 1) := dk_27 (dk_at dksX8_school_1 10 rfl rfl)
theorem dX8_school_35 : decode cX8_school 35 = .ok (.invokevirtual 220, 3) := dk_182 0 220 (dk_at dksX8_school_1 11 rfl rfl)
theorem dX8_school_38 : decode cX8_school 38 = .ok (.aload_n 0, 1) := dk_42 (dk_at dksX8_school_1 14 rfl rfl)
theorem dX8_school_39 : decode cX8_school 39 = .ok (.invokevirtual 118, 3) := dk_182 0 118 (dk_at dksX8_school_1 15 rfl rfl)
theorem dX8_school_42 : decode cX8_school 42 = .ok (.iconst 0, 1) := dk_3 (dk_at dksX8_school_1 18 rfl rfl)
theorem dX8_school_43 : decode cX8_school 43 = .ok (.istore_n 2, 1) := dk_61 (dk_at dksX8_school_1 19 rfl rfl)
theorem dX8_school_44 : decode cX8_school 44 = .ok (.aload_n 0, 1) := dk_42 (dk_at dksX8_school_1 20 rfl rfl)
theorem dX8_school_45 : decode cX8_school 45 = .ok (.invokevirtual 156, 3) := dk_182 0 156 (dk_at dksX8_school_1 21 rfl rfl)
theorem dX8_school_48 : decode cX8_school 48 = .ok (.ifCond .eq 116, 3) := dk_153 0 116 (dk_at dksX8_school_2 0 rfl rfl)
theorem dX8_school_51 : decode cX8_school 51 = .ok (.aload_n 0, 1) := dk_42 (dk_at dksX8_school_2 3 rfl rfl)
theorem dX8_school_52 : decode cX8_school 52 = .ok (.invokevirtual 224, 3) := dk_182 0 224 (dk_at dksX8_school_2 4 rfl rfl)
theorem dX8_school_55 : decode cX8_school 55 = .ok (.ifCond .eq 109, 3) := dk_153 0 109 (dk_at dksX8_school_2 7 rfl rfl)
theorem dX8_school_58 : decode cX8_school 58 = .ok (.aload_n 0, 1) := dk_42 (dk_at dksX8_school_2 10 rfl rfl)
theorem dX8_school_59 : decode cX8_school 59 = .ok (.invokevirtual 227, 3) := dk_182 0 227 (dk_at dksX8_school_2 11 rfl rfl)
theorem dX8_school_62 : decode cX8_school 62 = .ok (.istore_n 3, 1) := dk_62 (dk_at dksX8_school_2 14 rfl rfl)
theorem dX8_school_63 : decode cX8_school 63 = .ok (.iload_n 3, 1) := dk_29 (dk_at dksX8_school_2 15 rfl rfl)
theorem dX8_school_64 : decode cX8_school 64 = .ok (.invokestatic 230, 3) := dk_184 0 230 (dk_at dksX8_school_2 16 rfl rfl)
theorem dX8_school_67 : decode cX8_school 67 = .ok (.ifCond .ne 15, 3) := dk_154 0 15 (dk_at dksX8_school_2 19 rfl rfl)
theorem dX8_school_70 : decode cX8_school 70 = .ok (.aload_n 0, 1) := dk_42 (dk_at dksX8_school_2 22 rfl rfl)
theorem dX8_school_71 : decode cX8_school 71 = .ok (.iconst 1, 1) := dk_4 (dk_at dksX8_school_2 23 rfl rfl)
theorem dX8_school_72 : decode cX8_school 72 = .ok (.aload_n 0, 1) := dk_42 (dk_at dksX8_school_3 0 rfl rfl)
theorem dX8_school_73 : decode cX8_school 73 = .ok (.getfield 133, 3) := dk_180 0 133 (dk_at dksX8_school_3 1 rfl rfl)
theorem dX8_school_76 : decode cX8_school 76 = .ok (.invokevirtual 163, 3) := dk_182 0 163 (dk_at dksX8_school_3 4 rfl rfl)
theorem dX8_school_79 : decode cX8_school 79 = .ok (.goto 54, 3) := dk_167 0 54 (dk_at dksX8_school_3 7 rfl rfl)
theorem dX8_school_82 : decode cX8_school 82 = .ok (.iload_n 2, 1) := dk_28 (dk_at dksX8_school_3 10 rfl rfl)
theorem dX8_school_83 : decode cX8_school 83 = .ok (.bipush 60, 2) := dk_16 60 (dk_at dksX8_school_3 11 rfl rfl)
theorem dX8_school_85 : decode cX8_school 85 = .ok (.if_icmp .eq 39, 3) := dk_159 0 39 (dk_at dksX8_school_3 13 rfl rfl)
theorem dX8_school_88 : decode cX8_school 88 = .ok (.iload_n 3, 1) := dk_29 (dk_at dksX8_school_3 16 rfl rfl)
theorem dX8_school_89 : decode cX8_school 89 = .ok (.ldc 205, 2) := dk_18 205 (dk_at dksX8_school_3 17 rfl rfl)
theorem dX8_school_91 : decode cX8_school 91 = .ok (.invokestatic 206, 3) := dk_184 0 206 (dk_at dksX8_school_3 19 rfl rfl)
theorem dX8_school_94 : decode cX8_school 94 = .ok (.if_icmp .ne 12, 3) := dk_160 0 12 (dk_at dksX8_school_4 0 rfl rfl)
theorem dX8_school_97 : decode cX8_school 97 = .ok (.aload_n 0, 1) := dk_42 (dk_at dksX8_school_4 3 rfl rfl)
theorem dX8_school_98 : decode cX8_school 98 = .ok (.getfield 170, 3) := dk_180 0 170 (dk_at dksX8_school_4 4 rfl rfl)
theorem dX8_school_101 : decode cX8_school 101 = .ok (.bipush 6, 2) := dk_16 6 (dk_at dksX8_school_4 7 rfl rfl)
theorem dX8_school_103 : decode cX8_school 103 = .ok (.if_icmp .eq 21, 3) := dk_159 0 21 (dk_at dksX8_school_4 9 rfl rfl)
theorem dX8_school_106 : decode cX8_school 106 = .ok (.iload_n 3, 1) := dk_29 (dk_at dksX8_school_4 12 rfl rfl)
theorem dX8_school_107 : decode cX8_school 107 = .ok (.ldc 210, 2) := dk_18 210 (dk_at dksX8_school_4 13 rfl rfl)
theorem dX8_school_109 : decode cX8_school 109 = .ok (.invokestatic 206, 3) := dk_184 0 206 (dk_at dksX8_school_4 15 rfl rfl)
theorem dX8_school_112 : decode cX8_school 112 = .ok (.if_icmp .ne 21, 3) := dk_160 0 21 (dk_at dksX8_school_4 18 rfl rfl)
theorem dX8_school_115 : decode cX8_school 115 = .ok (.aload_n 0, 1) := dk_42 (dk_at dksX8_school_4 21 rfl rfl)
theorem dX8_school_116 : decode cX8_school 116 = .ok (.getfield 173, 3) := dk_180 0 173 (dk_at dksX8_school_5 0 rfl rfl)
theorem dX8_school_119 : decode cX8_school 119 = .ok (.bipush 7, 2) := dk_16 7 (dk_at dksX8_school_5 3 rfl rfl)
theorem dX8_school_121 : decode cX8_school 121 = .ok (.if_icmp .ne 12, 3) := dk_160 0 12 (dk_at dksX8_school_5 5 rfl rfl)
theorem dX8_school_124 : decode cX8_school 124 = .ok (.aload_n 0, 1) := dk_42 (dk_at dksX8_school_5 8 rfl rfl)
theorem dX8_school_125 : decode cX8_school 125 = .ok (.iconst 3, 1) := dk_6 (dk_at dksX8_school_5 9 rfl rfl)
theorem dX8_school_126 : decode cX8_school 126 = .ok (.aload_n 0, 1) := dk_42 (dk_at dksX8_school_5 10 rfl rfl)
theorem dX8_school_127 : decode cX8_school 127 = .ok (.getfield 133, 3) := dk_180 0 133 (dk_at dksX8_school_5 11 rfl rfl)
theorem dX8_school_130 : decode cX8_school 130 = .ok (.invokevirtual 163, 3) := dk_182 0 163 (dk_at dksX8_school_5 14 rfl rfl)
theorem dX8_school_133 : decode cX8_school 133 = .ok (.aload_n 0, 1) := dk_42 (dk_at dksX8_school_5 17 rfl rfl)
theorem dX8_school_134 : decode cX8_school 134 = .ok (.invokevirtual 156, 3) := dk_182 0 156 (dk_at dksX8_school_5 18 rfl rfl)
theorem dX8_school_137 : decode cX8_school 137 = .ok (.ifCond .ne 6, 3) := dk_154 0 6 (dk_at dksX8_school_5 21 rfl rfl)
theorem dX8_school_140 : decode cX8_school 140 = .ok (.goto 24, 3) := dk_167 0 24 (dk_at dksX8_school_6 0 rfl rfl)
theorem dX8_school_143 : decode cX8_school 143 = .ok (.aload_n 0, 1) := dk_42 (dk_at dksX8_school_6 3 rfl rfl)
theorem dX8_school_144 : decode cX8_school 144 = .ok (.invokevirtual 233, 3) := dk_182 0 233 (dk_at dksX8_school_6 4 rfl rfl)
theorem dX8_school_147 : decode cX8_school 147 = .ok (.aload_n 0, 1) := dk_42 (dk_at dksX8_school_6 7 rfl rfl)
theorem dX8_school_148 : decode cX8_school 148 = .ok (.iload_n 3, 1) := dk_29 (dk_at dksX8_school_6 8 rfl rfl)
theorem dX8_school_149 : decode cX8_school 149 = .ok (.invokevirtual 236, 3) := dk_182 0 236 (dk_at dksX8_school_6 9 rfl rfl)
theorem dX8_school_152 : decode cX8_school 152 = .ok (.aload_n 0, 1) := dk_42 (dk_at dksX8_school_6 12 rfl rfl)
theorem dX8_school_153 : decode cX8_school 153 = .ok (.bipush 59, 2) := dk_16 59 (dk_at dksX8_school_6 13 rfl rfl)
theorem dX8_school_155 : decode cX8_school 155 = .ok (.invokevirtual 239, 3) := dk_182 0 239 (dk_at dksX8_school_6 15 rfl rfl)
theorem dX8_school_158 : decode cX8_school 158 = .ok (.iinc 2 1, 3) := dk_132 2 1 (dk_at dksX8_school_6 18 rfl rfl)
theorem dX8_school_161 : decode cX8_school 161 = .ok (.goto (-117), 3) := dk_167 255 139 (dk_at dksX8_school_6 21 rfl rfl)
theorem dX8_school_164 : decode cX8_school 164 = .ok (.aload_n 0, 1) := dk_42 (dk_at dksX8_school_7 0 rfl rfl)
theorem dX8_school_165 : decode cX8_school 165 = .ok (.aload_n 0, 1) := dk_42 (dk_at dksX8_school_7 1 rfl rfl)
theorem dX8_school_166 : decode cX8_school 166 = .ok (.getfield 173, 3) := dk_180 0 173 (dk_at dksX8_school_7 2 rfl rfl)
theorem dX8_school_169 : decode cX8_school 169 = .ok (.invokevirtual 242, 3) := dk_182 0 242 (dk_at dksX8_school_7 5 rfl rfl)
theorem dX8_school_172 : decode cX8_school 172 = .ok (.istore_n 3, 1) := dk_62 (dk_at dksX8_school_7 8 rfl rfl)
theorem dX8_school_173 : decode cX8_school 173 = .ok (.aload_n 0, 1) := dk_42 (dk_at dksX8_school_7 9 rfl rfl)
theorem dX8_school_174 : decode cX8_school 174 = .ok (.getfield 127, 3) := dk_180 0 127 (dk_at dksX8_school_7 10 rfl rfl)
theorem dX8_school_177 : decode cX8_school 177 = .ok (.iconst (-1), 1) := dk_2 (dk_at dksX8_school_7 13 rfl rfl)
theorem dX8_school_178 : decode cX8_school 178 = .ok (.if_icmp .ne 7, 3) := dk_160 0 7 (dk_at dksX8_school_7 14 rfl rfl)
theorem dX8_school_181 : decode cX8_school 181 = .ok (.aload_n 0, 1) := dk_42 (dk_at dksX8_school_7 17 rfl rfl)
theorem dX8_school_182 : decode cX8_school 182 = .ok (.invokevirtual 121, 3) := dk_182 0 121 (dk_at dksX8_school_7 18 rfl rfl)
theorem dX8_school_185 : decode cX8_school 185 = .ok (.iload_n 3, 1) := dk_29 (dk_at dksX8_school_7 21 rfl rfl)
theorem dX8_school_186 : decode cX8_school 186 = .ok (.ireturn, 1) := dk_172 (dk_at dksX8_school_7 22 rfl rfl)
abbrev cX8_may : ByteArray := prog_24_method_2_code
def yX8_may : MethodName := ⟨RX8, "may", "(ZII)Z"⟩
def dkwX8_may_1 : List UInt8 := [96, 79, 42, 180, 0, 3, 154, 0, 7, 4, 167, 0, 4, 3, 172]
abbrev dktX8_may_1 : List UInt8 := dkwX8_may_1 ++ []
def dkwX8_may_0 : List UInt8 := [27, 154, 0, 25, 42, 180, 0, 3, 154, 0, 18, 42, 28, 181, 0, 3, 42, 180, 0, 7, 29, 92, 46, 4]
abbrev dktX8_may_0 : List UInt8 := dkwX8_may_0 ++ dktX8_may_1
theorem dksX8_may_0 : cX8_may.data.toList.drop 0 = dktX8_may_0 := by decide +kernel
theorem dksX8_may_1 : cX8_may.data.toList.drop 24 = dktX8_may_1 := dk_seg dksX8_may_0 24 rfl rfl
theorem dX8_may_0 : decode cX8_may 0 = .ok (.iload_n 1, 1) := dk_27 (dk_at dksX8_may_0 0 rfl rfl)
theorem dX8_may_1 : decode cX8_may 1 = .ok (.ifCond .ne 25, 3) := dk_154 0 25 (dk_at dksX8_may_0 1 rfl rfl)
theorem dX8_may_4 : decode cX8_may 4 = .ok (.aload_n 0, 1) := dk_42 (dk_at dksX8_may_0 4 rfl rfl)
theorem dX8_may_5 : decode cX8_may 5 = .ok (.getfield 3, 3) := dk_180 0 3 (dk_at dksX8_may_0 5 rfl rfl)
theorem dX8_may_8 : decode cX8_may 8 = .ok (.ifCond .ne 18, 3) := dk_154 0 18 (dk_at dksX8_may_0 8 rfl rfl)
theorem dX8_may_11 : decode cX8_may 11 = .ok (.aload_n 0, 1) := dk_42 (dk_at dksX8_may_0 11 rfl rfl)
theorem dX8_may_12 : decode cX8_may 12 = .ok (.iload_n 2, 1) := dk_28 (dk_at dksX8_may_0 12 rfl rfl)
theorem dX8_may_13 : decode cX8_may 13 = .ok (.putfield 3, 3) := dk_181 0 3 (dk_at dksX8_may_0 13 rfl rfl)
theorem dX8_may_16 : decode cX8_may 16 = .ok (.aload_n 0, 1) := dk_42 (dk_at dksX8_may_0 16 rfl rfl)
theorem dX8_may_17 : decode cX8_may 17 = .ok (.getfield 7, 3) := dk_180 0 7 (dk_at dksX8_may_0 17 rfl rfl)
theorem dX8_may_20 : decode cX8_may 20 = .ok (.iload_n 3, 1) := dk_29 (dk_at dksX8_may_0 20 rfl rfl)
theorem dX8_may_21 : decode cX8_may 21 = .ok (.dup2, 1) := dk_92 (dk_at dksX8_may_0 21 rfl rfl)
theorem dX8_may_22 : decode cX8_may 22 = .ok (.iaload, 1) := dk_46 (dk_at dksX8_may_0 22 rfl rfl)
theorem dX8_may_23 : decode cX8_may 23 = .ok (.iconst 1, 1) := dk_4 (dk_at dksX8_may_0 23 rfl rfl)
theorem dX8_may_24 : decode cX8_may 24 = .ok (.iadd, 1) := dk_96 (dk_at dksX8_may_1 0 rfl rfl)
theorem dX8_may_25 : decode cX8_may 25 = .ok (.iastore, 1) := dk_79 (dk_at dksX8_may_1 1 rfl rfl)
theorem dX8_may_26 : decode cX8_may 26 = .ok (.aload_n 0, 1) := dk_42 (dk_at dksX8_may_1 2 rfl rfl)
theorem dX8_may_27 : decode cX8_may 27 = .ok (.getfield 3, 3) := dk_180 0 3 (dk_at dksX8_may_1 3 rfl rfl)
theorem dX8_may_30 : decode cX8_may 30 = .ok (.ifCond .ne 7, 3) := dk_154 0 7 (dk_at dksX8_may_1 6 rfl rfl)
theorem dX8_may_33 : decode cX8_may 33 = .ok (.iconst 1, 1) := dk_4 (dk_at dksX8_may_1 9 rfl rfl)
theorem dX8_may_34 : decode cX8_may 34 = .ok (.goto 4, 3) := dk_167 0 4 (dk_at dksX8_may_1 10 rfl rfl)
theorem dX8_may_37 : decode cX8_may 37 = .ok (.iconst 0, 1) := dk_3 (dk_at dksX8_may_1 13 rfl rfl)
theorem dX8_may_38 : decode cX8_may 38 = .ok (.ireturn, 1) := dk_172 (dk_at dksX8_may_1 14 rfl rfl)
abbrev cX8_begins : ByteArray := prog_24_method_17_code
def yX8_begins : MethodName := ⟨RX8, "begins", "(I)V"⟩
def dkwX8_begins_1 : List UInt8 := [181, 0, 127, 42, 3, 181, 0, 167, 177]
abbrev dktX8_begins_1 : List UInt8 := dkwX8_begins_1 ++ []
def dkwX8_begins_0 : List UInt8 := [42, 3, 181, 0, 124, 42, 2, 181, 0, 17, 42, 27, 181, 0, 136, 42, 3, 181, 0, 133, 42, 2]
abbrev dktX8_begins_0 : List UInt8 := dkwX8_begins_0 ++ dktX8_begins_1
theorem dksX8_begins_0 : cX8_begins.data.toList.drop 0 = dktX8_begins_0 := by decide +kernel
theorem dksX8_begins_1 : cX8_begins.data.toList.drop 22 = dktX8_begins_1 := dk_seg dksX8_begins_0 22 rfl rfl
theorem dX8_begins_0 : decode cX8_begins 0 = .ok (.aload_n 0, 1) := dk_42 (dk_at dksX8_begins_0 0 rfl rfl)
theorem dX8_begins_1 : decode cX8_begins 1 = .ok (.iconst 0, 1) := dk_3 (dk_at dksX8_begins_0 1 rfl rfl)
theorem dX8_begins_2 : decode cX8_begins 2 = .ok (.putfield 124, 3) := dk_181 0 124 (dk_at dksX8_begins_0 2 rfl rfl)
theorem dX8_begins_5 : decode cX8_begins 5 = .ok (.aload_n 0, 1) := dk_42 (dk_at dksX8_begins_0 5 rfl rfl)
theorem dX8_begins_6 : decode cX8_begins 6 = .ok (.iconst (-1), 1) := dk_2 (dk_at dksX8_begins_0 6 rfl rfl)
theorem dX8_begins_7 : decode cX8_begins 7 = .ok (.putfield 17, 3) := dk_181 0 17 (dk_at dksX8_begins_0 7 rfl rfl)
theorem dX8_begins_10 : decode cX8_begins 10 = .ok (.aload_n 0, 1) := dk_42 (dk_at dksX8_begins_0 10 rfl rfl)
theorem dX8_begins_11 : decode cX8_begins 11 = .ok (.iload_n 1, 1) := dk_27 (dk_at dksX8_begins_0 11 rfl rfl)
theorem dX8_begins_12 : decode cX8_begins 12 = .ok (.putfield 136, 3) := dk_181 0 136 (dk_at dksX8_begins_0 12 rfl rfl)
theorem dX8_begins_15 : decode cX8_begins 15 = .ok (.aload_n 0, 1) := dk_42 (dk_at dksX8_begins_0 15 rfl rfl)
theorem dX8_begins_16 : decode cX8_begins 16 = .ok (.iconst 0, 1) := dk_3 (dk_at dksX8_begins_0 16 rfl rfl)
theorem dX8_begins_17 : decode cX8_begins 17 = .ok (.putfield 133, 3) := dk_181 0 133 (dk_at dksX8_begins_0 17 rfl rfl)
theorem dX8_begins_20 : decode cX8_begins 20 = .ok (.aload_n 0, 1) := dk_42 (dk_at dksX8_begins_0 20 rfl rfl)
theorem dX8_begins_21 : decode cX8_begins 21 = .ok (.iconst (-1), 1) := dk_2 (dk_at dksX8_begins_0 21 rfl rfl)
theorem dX8_begins_22 : decode cX8_begins 22 = .ok (.putfield 127, 3) := dk_181 0 127 (dk_at dksX8_begins_1 0 rfl rfl)
theorem dX8_begins_25 : decode cX8_begins 25 = .ok (.aload_n 0, 1) := dk_42 (dk_at dksX8_begins_1 3 rfl rfl)
theorem dX8_begins_26 : decode cX8_begins 26 = .ok (.iconst 0, 1) := dk_3 (dk_at dksX8_begins_1 4 rfl rfl)
theorem dX8_begins_27 : decode cX8_begins 27 = .ok (.putfield 167, 3) := dk_181 0 167 (dk_at dksX8_begins_1 5 rfl rfl)
theorem dX8_begins_30 : decode cX8_begins 30 = .ok (.return_, 1) := dk_177 (dk_at dksX8_begins_1 8 rfl rfl)
abbrev cX8_fine : ByteArray := prog_24_method_6_code
def yX8_fine : MethodName := ⟨RX8, "fine", "()Z"⟩
def dkwX8_fine_0 : List UInt8 := [42, 180, 0, 127, 2, 160, 0, 7, 4, 167, 0, 4, 3, 172]
abbrev dktX8_fine_0 : List UInt8 := dkwX8_fine_0 ++ []
theorem dksX8_fine_0 : cX8_fine.data.toList.drop 0 = dktX8_fine_0 := by decide +kernel
theorem dX8_fine_0 : decode cX8_fine 0 = .ok (.aload_n 0, 1) := dk_42 (dk_at dksX8_fine_0 0 rfl rfl)
theorem dX8_fine_1 : decode cX8_fine 1 = .ok (.getfield 127, 3) := dk_180 0 127 (dk_at dksX8_fine_0 1 rfl rfl)
theorem dX8_fine_4 : decode cX8_fine 4 = .ok (.iconst (-1), 1) := dk_2 (dk_at dksX8_fine_0 4 rfl rfl)
theorem dX8_fine_5 : decode cX8_fine 5 = .ok (.if_icmp .ne 7, 3) := dk_160 0 7 (dk_at dksX8_fine_0 5 rfl rfl)
theorem dX8_fine_8 : decode cX8_fine 8 = .ok (.iconst 1, 1) := dk_4 (dk_at dksX8_fine_0 8 rfl rfl)
theorem dX8_fine_9 : decode cX8_fine 9 = .ok (.goto 4, 3) := dk_167 0 4 (dk_at dksX8_fine_0 9 rfl rfl)
theorem dX8_fine_12 : decode cX8_fine 12 = .ok (.iconst 0, 1) := dk_3 (dk_at dksX8_fine_0 12 rfl rfl)
theorem dX8_fine_13 : decode cX8_fine 13 = .ok (.ireturn, 1) := dk_172 (dk_at dksX8_fine_0 13 rfl rfl)
abbrev cX8_isMore : ByteArray := prog_24_method_16_code
def yX8_isMore : MethodName := ⟨RX8, "isMore", "()Z"⟩
def dkwX8_isMore_0 : List UInt8 := [42, 182, 0, 139, 87, 42, 180, 0, 133, 42, 180, 0, 136, 162, 0, 7, 4, 167, 0, 4, 3, 172]
abbrev dktX8_isMore_0 : List UInt8 := dkwX8_isMore_0 ++ []
theorem dksX8_isMore_0 : cX8_isMore.data.toList.drop 0 = dktX8_isMore_0 := by decide +kernel
theorem dX8_isMore_0 : decode cX8_isMore 0 = .ok (.aload_n 0, 1) := dk_42 (dk_at dksX8_isMore_0 0 rfl rfl)
theorem dX8_isMore_1 : decode cX8_isMore 1 = .ok (.invokevirtual 139, 3) := dk_182 0 139 (dk_at dksX8_isMore_0 1 rfl rfl)
theorem dX8_isMore_4 : decode cX8_isMore 4 = .ok (.pop, 1) := dk_87 (dk_at dksX8_isMore_0 4 rfl rfl)
theorem dX8_isMore_5 : decode cX8_isMore 5 = .ok (.aload_n 0, 1) := dk_42 (dk_at dksX8_isMore_0 5 rfl rfl)
theorem dX8_isMore_6 : decode cX8_isMore 6 = .ok (.getfield 133, 3) := dk_180 0 133 (dk_at dksX8_isMore_0 6 rfl rfl)
theorem dX8_isMore_9 : decode cX8_isMore 9 = .ok (.aload_n 0, 1) := dk_42 (dk_at dksX8_isMore_0 9 rfl rfl)
theorem dX8_isMore_10 : decode cX8_isMore 10 = .ok (.getfield 136, 3) := dk_180 0 136 (dk_at dksX8_isMore_0 10 rfl rfl)
theorem dX8_isMore_13 : decode cX8_isMore 13 = .ok (.if_icmp .ge 7, 3) := dk_162 0 7 (dk_at dksX8_isMore_0 13 rfl rfl)
theorem dX8_isMore_16 : decode cX8_isMore 16 = .ok (.iconst 1, 1) := dk_4 (dk_at dksX8_isMore_0 16 rfl rfl)
theorem dX8_isMore_17 : decode cX8_isMore 17 = .ok (.goto 4, 3) := dk_167 0 4 (dk_at dksX8_isMore_0 17 rfl rfl)
theorem dX8_isMore_20 : decode cX8_isMore 20 = .ok (.iconst 0, 1) := dk_3 (dk_at dksX8_isMore_0 20 rfl rfl)
theorem dX8_isMore_21 : decode cX8_isMore 21 = .ok (.ireturn, 1) := dk_172 (dk_at dksX8_isMore_0 21 rfl rfl)
abbrev cX8_here : ByteArray := prog_24_method_8_code
def yX8_here : MethodName := ⟨RX8, "here", "()I"⟩
def dkwX8_here_2 : List UInt8 := [162, 0, 15, 42, 180, 0, 20, 42, 180, 0, 133, 46, 167, 0, 4, 3, 172]
abbrev dktX8_here_2 : List UInt8 := dkwX8_here_2 ++ []
def dkwX8_here_1 : List UInt8 := [160, 0, 16, 42, 89, 180, 0, 133, 4, 96, 181, 0, 133, 167, 255, 221, 42, 180, 0, 133, 42, 180, 0, 136]
abbrev dktX8_here_1 : List UInt8 := dkwX8_here_1 ++ dktX8_here_2
def dkwX8_here_0 : List UInt8 := [42, 180, 0, 133, 42, 180, 0, 136, 162, 0, 30, 42, 180, 0, 20, 42, 180, 0, 133, 46, 16, 32]
abbrev dktX8_here_0 : List UInt8 := dkwX8_here_0 ++ dktX8_here_1
theorem dksX8_here_0 : cX8_here.data.toList.drop 0 = dktX8_here_0 := by decide +kernel
theorem dksX8_here_1 : cX8_here.data.toList.drop 22 = dktX8_here_1 := dk_seg dksX8_here_0 22 rfl rfl
theorem dksX8_here_2 : cX8_here.data.toList.drop 46 = dktX8_here_2 := dk_seg dksX8_here_1 24 rfl rfl
theorem dX8_here_0 : decode cX8_here 0 = .ok (.aload_n 0, 1) := dk_42 (dk_at dksX8_here_0 0 rfl rfl)
theorem dX8_here_1 : decode cX8_here 1 = .ok (.getfield 133, 3) := dk_180 0 133 (dk_at dksX8_here_0 1 rfl rfl)
theorem dX8_here_4 : decode cX8_here 4 = .ok (.aload_n 0, 1) := dk_42 (dk_at dksX8_here_0 4 rfl rfl)
theorem dX8_here_5 : decode cX8_here 5 = .ok (.getfield 136, 3) := dk_180 0 136 (dk_at dksX8_here_0 5 rfl rfl)
theorem dX8_here_8 : decode cX8_here 8 = .ok (.if_icmp .ge 30, 3) := dk_162 0 30 (dk_at dksX8_here_0 8 rfl rfl)
theorem dX8_here_11 : decode cX8_here 11 = .ok (.aload_n 0, 1) := dk_42 (dk_at dksX8_here_0 11 rfl rfl)
theorem dX8_here_12 : decode cX8_here 12 = .ok (.getfield 20, 3) := dk_180 0 20 (dk_at dksX8_here_0 12 rfl rfl)
theorem dX8_here_15 : decode cX8_here 15 = .ok (.aload_n 0, 1) := dk_42 (dk_at dksX8_here_0 15 rfl rfl)
theorem dX8_here_16 : decode cX8_here 16 = .ok (.getfield 133, 3) := dk_180 0 133 (dk_at dksX8_here_0 16 rfl rfl)
theorem dX8_here_19 : decode cX8_here 19 = .ok (.iaload, 1) := dk_46 (dk_at dksX8_here_0 19 rfl rfl)
theorem dX8_here_20 : decode cX8_here 20 = .ok (.bipush 32, 2) := dk_16 32 (dk_at dksX8_here_0 20 rfl rfl)
theorem dX8_here_22 : decode cX8_here 22 = .ok (.if_icmp .ne 16, 3) := dk_160 0 16 (dk_at dksX8_here_1 0 rfl rfl)
theorem dX8_here_25 : decode cX8_here 25 = .ok (.aload_n 0, 1) := dk_42 (dk_at dksX8_here_1 3 rfl rfl)
theorem dX8_here_26 : decode cX8_here 26 = .ok (.dup, 1) := dk_89 (dk_at dksX8_here_1 4 rfl rfl)
theorem dX8_here_27 : decode cX8_here 27 = .ok (.getfield 133, 3) := dk_180 0 133 (dk_at dksX8_here_1 5 rfl rfl)
theorem dX8_here_30 : decode cX8_here 30 = .ok (.iconst 1, 1) := dk_4 (dk_at dksX8_here_1 8 rfl rfl)
theorem dX8_here_31 : decode cX8_here 31 = .ok (.iadd, 1) := dk_96 (dk_at dksX8_here_1 9 rfl rfl)
theorem dX8_here_32 : decode cX8_here 32 = .ok (.putfield 133, 3) := dk_181 0 133 (dk_at dksX8_here_1 10 rfl rfl)
theorem dX8_here_35 : decode cX8_here 35 = .ok (.goto (-35), 3) := dk_167 255 221 (dk_at dksX8_here_1 13 rfl rfl)
theorem dX8_here_38 : decode cX8_here 38 = .ok (.aload_n 0, 1) := dk_42 (dk_at dksX8_here_1 16 rfl rfl)
theorem dX8_here_39 : decode cX8_here 39 = .ok (.getfield 133, 3) := dk_180 0 133 (dk_at dksX8_here_1 17 rfl rfl)
theorem dX8_here_42 : decode cX8_here 42 = .ok (.aload_n 0, 1) := dk_42 (dk_at dksX8_here_1 20 rfl rfl)
theorem dX8_here_43 : decode cX8_here 43 = .ok (.getfield 136, 3) := dk_180 0 136 (dk_at dksX8_here_1 21 rfl rfl)
theorem dX8_here_46 : decode cX8_here 46 = .ok (.if_icmp .ge 15, 3) := dk_162 0 15 (dk_at dksX8_here_2 0 rfl rfl)
theorem dX8_here_49 : decode cX8_here 49 = .ok (.aload_n 0, 1) := dk_42 (dk_at dksX8_here_2 3 rfl rfl)
theorem dX8_here_50 : decode cX8_here 50 = .ok (.getfield 20, 3) := dk_180 0 20 (dk_at dksX8_here_2 4 rfl rfl)
theorem dX8_here_53 : decode cX8_here 53 = .ok (.aload_n 0, 1) := dk_42 (dk_at dksX8_here_2 7 rfl rfl)
theorem dX8_here_54 : decode cX8_here 54 = .ok (.getfield 133, 3) := dk_180 0 133 (dk_at dksX8_here_2 8 rfl rfl)
theorem dX8_here_57 : decode cX8_here 57 = .ok (.iaload, 1) := dk_46 (dk_at dksX8_here_2 11 rfl rfl)
theorem dX8_here_58 : decode cX8_here 58 = .ok (.goto 4, 3) := dk_167 0 4 (dk_at dksX8_here_2 12 rfl rfl)
theorem dX8_here_61 : decode cX8_here 61 = .ok (.iconst 0, 1) := dk_3 (dk_at dksX8_here_2 15 rfl rfl)
theorem dX8_here_62 : decode cX8_here 62 = .ok (.ireturn, 1) := dk_172 (dk_at dksX8_here_2 16 rfl rfl)
abbrev cX8_word : ByteArray := prog_24_method_11_code
def yX8_word : MethodName := ⟨RX8, "word", "()I"⟩
def dkwX8_word_3 : List UInt8 := [164, 0, 7, 3, 167, 0, 4, 27, 172]
abbrev dktX8_word_3 : List UInt8 := dkwX8_word_3 ++ []
def dkwX8_word_2 : List UInt8 := [29, 46, 16, 96, 100, 128, 167, 0, 4, 3, 60, 132, 2, 1, 132, 3, 1, 167, 255, 206, 28, 16, 6]
abbrev dktX8_word_2 : List UInt8 := dkwX8_word_2 ++ dktX8_word_3
def dkwX8_word_1 : List UInt8 := [180, 0, 20, 29, 46, 184, 0, 143, 153, 0, 36, 28, 16, 6, 162, 0, 19, 27, 8, 120, 42, 180, 0, 20]
abbrev dktX8_word_1 : List UInt8 := dkwX8_word_1 ++ dktX8_word_2
def dkwX8_word_0 : List UInt8 := [42, 182, 0, 139, 87, 3, 60, 3, 61, 42, 180, 0, 133, 62, 29, 42, 180, 0, 136, 162, 0, 48, 42]
abbrev dktX8_word_0 : List UInt8 := dkwX8_word_0 ++ dktX8_word_1
theorem dksX8_word_0 : cX8_word.data.toList.drop 0 = dktX8_word_0 := by decide +kernel
theorem dksX8_word_1 : cX8_word.data.toList.drop 23 = dktX8_word_1 := dk_seg dksX8_word_0 23 rfl rfl
theorem dksX8_word_2 : cX8_word.data.toList.drop 47 = dktX8_word_2 := dk_seg dksX8_word_1 24 rfl rfl
theorem dksX8_word_3 : cX8_word.data.toList.drop 70 = dktX8_word_3 := dk_seg dksX8_word_2 23 rfl rfl
theorem dX8_word_0 : decode cX8_word 0 = .ok (.aload_n 0, 1) := dk_42 (dk_at dksX8_word_0 0 rfl rfl)
theorem dX8_word_1 : decode cX8_word 1 = .ok (.invokevirtual 139, 3) := dk_182 0 139 (dk_at dksX8_word_0 1 rfl rfl)
theorem dX8_word_4 : decode cX8_word 4 = .ok (.pop, 1) := dk_87 (dk_at dksX8_word_0 4 rfl rfl)
theorem dX8_word_5 : decode cX8_word 5 = .ok (.iconst 0, 1) := dk_3 (dk_at dksX8_word_0 5 rfl rfl)
theorem dX8_word_6 : decode cX8_word 6 = .ok (.istore_n 1, 1) := dk_60 (dk_at dksX8_word_0 6 rfl rfl)
theorem dX8_word_7 : decode cX8_word 7 = .ok (.iconst 0, 1) := dk_3 (dk_at dksX8_word_0 7 rfl rfl)
theorem dX8_word_8 : decode cX8_word 8 = .ok (.istore_n 2, 1) := dk_61 (dk_at dksX8_word_0 8 rfl rfl)
theorem dX8_word_9 : decode cX8_word 9 = .ok (.aload_n 0, 1) := dk_42 (dk_at dksX8_word_0 9 rfl rfl)
theorem dX8_word_10 : decode cX8_word 10 = .ok (.getfield 133, 3) := dk_180 0 133 (dk_at dksX8_word_0 10 rfl rfl)
theorem dX8_word_13 : decode cX8_word 13 = .ok (.istore_n 3, 1) := dk_62 (dk_at dksX8_word_0 13 rfl rfl)
theorem dX8_word_14 : decode cX8_word 14 = .ok (.iload_n 3, 1) := dk_29 (dk_at dksX8_word_0 14 rfl rfl)
theorem dX8_word_15 : decode cX8_word 15 = .ok (.aload_n 0, 1) := dk_42 (dk_at dksX8_word_0 15 rfl rfl)
theorem dX8_word_16 : decode cX8_word 16 = .ok (.getfield 136, 3) := dk_180 0 136 (dk_at dksX8_word_0 16 rfl rfl)
theorem dX8_word_19 : decode cX8_word 19 = .ok (.if_icmp .ge 48, 3) := dk_162 0 48 (dk_at dksX8_word_0 19 rfl rfl)
theorem dX8_word_22 : decode cX8_word 22 = .ok (.aload_n 0, 1) := dk_42 (dk_at dksX8_word_0 22 rfl rfl)
theorem dX8_word_23 : decode cX8_word 23 = .ok (.getfield 20, 3) := dk_180 0 20 (dk_at dksX8_word_1 0 rfl rfl)
theorem dX8_word_26 : decode cX8_word 26 = .ok (.iload_n 3, 1) := dk_29 (dk_at dksX8_word_1 3 rfl rfl)
theorem dX8_word_27 : decode cX8_word 27 = .ok (.iaload, 1) := dk_46 (dk_at dksX8_word_1 4 rfl rfl)
theorem dX8_word_28 : decode cX8_word 28 = .ok (.invokestatic 143, 3) := dk_184 0 143 (dk_at dksX8_word_1 5 rfl rfl)
theorem dX8_word_31 : decode cX8_word 31 = .ok (.ifCond .eq 36, 3) := dk_153 0 36 (dk_at dksX8_word_1 8 rfl rfl)
theorem dX8_word_34 : decode cX8_word 34 = .ok (.iload_n 2, 1) := dk_28 (dk_at dksX8_word_1 11 rfl rfl)
theorem dX8_word_35 : decode cX8_word 35 = .ok (.bipush 6, 2) := dk_16 6 (dk_at dksX8_word_1 12 rfl rfl)
theorem dX8_word_37 : decode cX8_word 37 = .ok (.if_icmp .ge 19, 3) := dk_162 0 19 (dk_at dksX8_word_1 14 rfl rfl)
theorem dX8_word_40 : decode cX8_word 40 = .ok (.iload_n 1, 1) := dk_27 (dk_at dksX8_word_1 17 rfl rfl)
theorem dX8_word_41 : decode cX8_word 41 = .ok (.iconst 5, 1) := dk_8 (dk_at dksX8_word_1 18 rfl rfl)
theorem dX8_word_42 : decode cX8_word 42 = .ok (.ishl, 1) := dk_120 (dk_at dksX8_word_1 19 rfl rfl)
theorem dX8_word_43 : decode cX8_word 43 = .ok (.aload_n 0, 1) := dk_42 (dk_at dksX8_word_1 20 rfl rfl)
theorem dX8_word_44 : decode cX8_word 44 = .ok (.getfield 20, 3) := dk_180 0 20 (dk_at dksX8_word_1 21 rfl rfl)
theorem dX8_word_47 : decode cX8_word 47 = .ok (.iload_n 3, 1) := dk_29 (dk_at dksX8_word_2 0 rfl rfl)
theorem dX8_word_48 : decode cX8_word 48 = .ok (.iaload, 1) := dk_46 (dk_at dksX8_word_2 1 rfl rfl)
theorem dX8_word_49 : decode cX8_word 49 = .ok (.bipush 96, 2) := dk_16 96 (dk_at dksX8_word_2 2 rfl rfl)
theorem dX8_word_51 : decode cX8_word 51 = .ok (.isub, 1) := dk_100 (dk_at dksX8_word_2 4 rfl rfl)
theorem dX8_word_52 : decode cX8_word 52 = .ok (.ior, 1) := dk_128 (dk_at dksX8_word_2 5 rfl rfl)
theorem dX8_word_53 : decode cX8_word 53 = .ok (.goto 4, 3) := dk_167 0 4 (dk_at dksX8_word_2 6 rfl rfl)
theorem dX8_word_56 : decode cX8_word 56 = .ok (.iconst 0, 1) := dk_3 (dk_at dksX8_word_2 9 rfl rfl)
theorem dX8_word_57 : decode cX8_word 57 = .ok (.istore_n 1, 1) := dk_60 (dk_at dksX8_word_2 10 rfl rfl)
theorem dX8_word_58 : decode cX8_word 58 = .ok (.iinc 2 1, 3) := dk_132 2 1 (dk_at dksX8_word_2 11 rfl rfl)
theorem dX8_word_61 : decode cX8_word 61 = .ok (.iinc 3 1, 3) := dk_132 3 1 (dk_at dksX8_word_2 14 rfl rfl)
theorem dX8_word_64 : decode cX8_word 64 = .ok (.goto (-50), 3) := dk_167 255 206 (dk_at dksX8_word_2 17 rfl rfl)
theorem dX8_word_67 : decode cX8_word 67 = .ok (.iload_n 2, 1) := dk_28 (dk_at dksX8_word_2 20 rfl rfl)
theorem dX8_word_68 : decode cX8_word 68 = .ok (.bipush 6, 2) := dk_16 6 (dk_at dksX8_word_2 21 rfl rfl)
theorem dX8_word_70 : decode cX8_word 70 = .ok (.if_icmp .le 7, 3) := dk_164 0 7 (dk_at dksX8_word_3 0 rfl rfl)
theorem dX8_word_73 : decode cX8_word 73 = .ok (.iconst 0, 1) := dk_3 (dk_at dksX8_word_3 3 rfl rfl)
theorem dX8_word_74 : decode cX8_word 74 = .ok (.goto 4, 3) := dk_167 0 4 (dk_at dksX8_word_3 4 rfl rfl)
theorem dX8_word_77 : decode cX8_word 77 = .ok (.iload_n 1, 1) := dk_27 (dk_at dksX8_word_3 7 rfl rfl)
theorem dX8_word_78 : decode cX8_word 78 = .ok (.ireturn, 1) := dk_172 (dk_at dksX8_word_3 8 rfl rfl)
abbrev cX8_isSmall : ByteArray := prog_24_method_9_code
def yX8_isSmall : MethodName := ⟨RX8, "isSmall", "(I)Z"⟩
def dkwX8_isSmall_0 : List UInt8 := [26, 16, 97, 161, 0, 13, 26, 16, 122, 163, 0, 7, 4, 167, 0, 4, 3, 172]
abbrev dktX8_isSmall_0 : List UInt8 := dkwX8_isSmall_0 ++ []
theorem dksX8_isSmall_0 : cX8_isSmall.data.toList.drop 0 = dktX8_isSmall_0 := by decide +kernel
theorem dX8_isSmall_0 : decode cX8_isSmall 0 = .ok (.iload_n 0, 1) := dk_26 (dk_at dksX8_isSmall_0 0 rfl rfl)
theorem dX8_isSmall_1 : decode cX8_isSmall 1 = .ok (.bipush 97, 2) := dk_16 97 (dk_at dksX8_isSmall_0 1 rfl rfl)
theorem dX8_isSmall_3 : decode cX8_isSmall 3 = .ok (.if_icmp .lt 13, 3) := dk_161 0 13 (dk_at dksX8_isSmall_0 3 rfl rfl)
theorem dX8_isSmall_6 : decode cX8_isSmall 6 = .ok (.iload_n 0, 1) := dk_26 (dk_at dksX8_isSmall_0 6 rfl rfl)
theorem dX8_isSmall_7 : decode cX8_isSmall 7 = .ok (.bipush 122, 2) := dk_16 122 (dk_at dksX8_isSmall_0 7 rfl rfl)
theorem dX8_isSmall_9 : decode cX8_isSmall 9 = .ok (.if_icmp .gt 7, 3) := dk_163 0 7 (dk_at dksX8_isSmall_0 9 rfl rfl)
theorem dX8_isSmall_12 : decode cX8_isSmall 12 = .ok (.iconst 1, 1) := dk_4 (dk_at dksX8_isSmall_0 12 rfl rfl)
theorem dX8_isSmall_13 : decode cX8_isSmall 13 = .ok (.goto 4, 3) := dk_167 0 4 (dk_at dksX8_isSmall_0 13 rfl rfl)
theorem dX8_isSmall_16 : decode cX8_isSmall 16 = .ok (.iconst 0, 1) := dk_3 (dk_at dksX8_isSmall_0 16 rfl rfl)
theorem dX8_isSmall_17 : decode cX8_isSmall 17 = .ok (.ireturn, 1) := dk_172 (dk_at dksX8_isSmall_0 17 rfl rfl)
abbrev cX8_isRow : ByteArray := prog_24_method_24_code
def yX8_isRow : MethodName := ⟨RX8, "isRow", "(I)Z"⟩
def dkwX8_isRow_1 : List UInt8 := [159, 0, 12, 26, 18, 212, 184, 0, 206, 160, 0, 7, 4, 167, 0, 4, 3, 172]
abbrev dktX8_isRow_1 : List UInt8 := dkwX8_isRow_1 ++ []
def dkwX8_isRow_0 : List UInt8 := [26, 18, 205, 184, 0, 206, 159, 0, 30, 26, 18, 210, 184, 0, 206, 159, 0, 21, 26, 18, 211, 184, 0, 206]
abbrev dktX8_isRow_0 : List UInt8 := dkwX8_isRow_0 ++ dktX8_isRow_1
theorem dksX8_isRow_0 : cX8_isRow.data.toList.drop 0 = dktX8_isRow_0 := by decide +kernel
theorem dksX8_isRow_1 : cX8_isRow.data.toList.drop 24 = dktX8_isRow_1 := dk_seg dksX8_isRow_0 24 rfl rfl
theorem dX8_isRow_0 : decode cX8_isRow 0 = .ok (.iload_n 0, 1) := dk_26 (dk_at dksX8_isRow_0 0 rfl rfl)
theorem dX8_isRow_1 : decode cX8_isRow 1 = .ok (.ldc 205, 2) := dk_18 205 (dk_at dksX8_isRow_0 1 rfl rfl)
theorem dX8_isRow_3 : decode cX8_isRow 3 = .ok (.invokestatic 206, 3) := dk_184 0 206 (dk_at dksX8_isRow_0 3 rfl rfl)
theorem dX8_isRow_6 : decode cX8_isRow 6 = .ok (.if_icmp .eq 30, 3) := dk_159 0 30 (dk_at dksX8_isRow_0 6 rfl rfl)
theorem dX8_isRow_9 : decode cX8_isRow 9 = .ok (.iload_n 0, 1) := dk_26 (dk_at dksX8_isRow_0 9 rfl rfl)
theorem dX8_isRow_10 : decode cX8_isRow 10 = .ok (.ldc 210, 2) := dk_18 210 (dk_at dksX8_isRow_0 10 rfl rfl)
theorem dX8_isRow_12 : decode cX8_isRow 12 = .ok (.invokestatic 206, 3) := dk_184 0 206 (dk_at dksX8_isRow_0 12 rfl rfl)
theorem dX8_isRow_15 : decode cX8_isRow 15 = .ok (.if_icmp .eq 21, 3) := dk_159 0 21 (dk_at dksX8_isRow_0 15 rfl rfl)
theorem dX8_isRow_18 : decode cX8_isRow 18 = .ok (.iload_n 0, 1) := dk_26 (dk_at dksX8_isRow_0 18 rfl rfl)
theorem dX8_isRow_19 : decode cX8_isRow 19 = .ok (.ldc 211, 2) := dk_18 211 (dk_at dksX8_isRow_0 19 rfl rfl)
theorem dX8_isRow_21 : decode cX8_isRow 21 = .ok (.invokestatic 206, 3) := dk_184 0 206 (dk_at dksX8_isRow_0 21 rfl rfl)
theorem dX8_isRow_24 : decode cX8_isRow 24 = .ok (.if_icmp .eq 12, 3) := dk_159 0 12 (dk_at dksX8_isRow_1 0 rfl rfl)
theorem dX8_isRow_27 : decode cX8_isRow 27 = .ok (.iload_n 0, 1) := dk_26 (dk_at dksX8_isRow_1 3 rfl rfl)
theorem dX8_isRow_28 : decode cX8_isRow 28 = .ok (.ldc 212, 2) := dk_18 212 (dk_at dksX8_isRow_1 4 rfl rfl)
theorem dX8_isRow_30 : decode cX8_isRow 30 = .ok (.invokestatic 206, 3) := dk_184 0 206 (dk_at dksX8_isRow_1 6 rfl rfl)
theorem dX8_isRow_33 : decode cX8_isRow 33 = .ok (.if_icmp .ne 7, 3) := dk_160 0 7 (dk_at dksX8_isRow_1 9 rfl rfl)
theorem dX8_isRow_36 : decode cX8_isRow 36 = .ok (.iconst 1, 1) := dk_4 (dk_at dksX8_isRow_1 12 rfl rfl)
theorem dX8_isRow_37 : decode cX8_isRow 37 = .ok (.goto 4, 3) := dk_167 0 4 (dk_at dksX8_isRow_1 13 rfl rfl)
theorem dX8_isRow_40 : decode cX8_isRow 40 = .ok (.iconst 0, 1) := dk_3 (dk_at dksX8_isRow_1 16 rfl rfl)
theorem dX8_isRow_41 : decode cX8_isRow 41 = .ok (.ireturn, 1) := dk_172 (dk_at dksX8_isRow_1 17 rfl rfl)
abbrev cX8_of : ByteArray := prog_24_method_12_code
def yX8_of : MethodName := ⟨RX8, "of", "(Ljava/lang/String;)I"⟩
def dkwX8_of_1 : List UInt8 := [60, 132, 2, 1, 167, 255, 232, 27, 172]
abbrev dktX8_of_1 : List UInt8 := dkwX8_of_1 ++ []
def dkwX8_of_0 : List UInt8 := [3, 60, 3, 61, 28, 42, 182, 0, 147, 162, 0, 22, 27, 8, 120, 42, 28, 182, 0, 152, 16, 96, 100, 128]
abbrev dktX8_of_0 : List UInt8 := dkwX8_of_0 ++ dktX8_of_1
theorem dksX8_of_0 : cX8_of.data.toList.drop 0 = dktX8_of_0 := by decide +kernel
theorem dksX8_of_1 : cX8_of.data.toList.drop 24 = dktX8_of_1 := dk_seg dksX8_of_0 24 rfl rfl
theorem dX8_of_0 : decode cX8_of 0 = .ok (.iconst 0, 1) := dk_3 (dk_at dksX8_of_0 0 rfl rfl)
theorem dX8_of_1 : decode cX8_of 1 = .ok (.istore_n 1, 1) := dk_60 (dk_at dksX8_of_0 1 rfl rfl)
theorem dX8_of_2 : decode cX8_of 2 = .ok (.iconst 0, 1) := dk_3 (dk_at dksX8_of_0 2 rfl rfl)
theorem dX8_of_3 : decode cX8_of 3 = .ok (.istore_n 2, 1) := dk_61 (dk_at dksX8_of_0 3 rfl rfl)
theorem dX8_of_4 : decode cX8_of 4 = .ok (.iload_n 2, 1) := dk_28 (dk_at dksX8_of_0 4 rfl rfl)
theorem dX8_of_5 : decode cX8_of 5 = .ok (.aload_n 0, 1) := dk_42 (dk_at dksX8_of_0 5 rfl rfl)
theorem dX8_of_6 : decode cX8_of 6 = .ok (.invokevirtual 147, 3) := dk_182 0 147 (dk_at dksX8_of_0 6 rfl rfl)
theorem dX8_of_9 : decode cX8_of 9 = .ok (.if_icmp .ge 22, 3) := dk_162 0 22 (dk_at dksX8_of_0 9 rfl rfl)
theorem dX8_of_12 : decode cX8_of 12 = .ok (.iload_n 1, 1) := dk_27 (dk_at dksX8_of_0 12 rfl rfl)
theorem dX8_of_13 : decode cX8_of 13 = .ok (.iconst 5, 1) := dk_8 (dk_at dksX8_of_0 13 rfl rfl)
theorem dX8_of_14 : decode cX8_of 14 = .ok (.ishl, 1) := dk_120 (dk_at dksX8_of_0 14 rfl rfl)
theorem dX8_of_15 : decode cX8_of 15 = .ok (.aload_n 0, 1) := dk_42 (dk_at dksX8_of_0 15 rfl rfl)
theorem dX8_of_16 : decode cX8_of 16 = .ok (.iload_n 2, 1) := dk_28 (dk_at dksX8_of_0 16 rfl rfl)
theorem dX8_of_17 : decode cX8_of 17 = .ok (.invokevirtual 152, 3) := dk_182 0 152 (dk_at dksX8_of_0 17 rfl rfl)
theorem dX8_of_20 : decode cX8_of 20 = .ok (.bipush 96, 2) := dk_16 96 (dk_at dksX8_of_0 20 rfl rfl)
theorem dX8_of_22 : decode cX8_of 22 = .ok (.isub, 1) := dk_100 (dk_at dksX8_of_0 22 rfl rfl)
theorem dX8_of_23 : decode cX8_of 23 = .ok (.ior, 1) := dk_128 (dk_at dksX8_of_0 23 rfl rfl)
theorem dX8_of_24 : decode cX8_of 24 = .ok (.istore_n 1, 1) := dk_60 (dk_at dksX8_of_1 0 rfl rfl)
theorem dX8_of_25 : decode cX8_of 25 = .ok (.iinc 2 1, 3) := dk_132 2 1 (dk_at dksX8_of_1 1 rfl rfl)
theorem dX8_of_28 : decode cX8_of 28 = .ok (.goto (-24), 3) := dk_167 255 232 (dk_at dksX8_of_1 4 rfl rfl)
theorem dX8_of_31 : decode cX8_of 31 = .ok (.iload_n 1, 1) := dk_27 (dk_at dksX8_of_1 7 rfl rfl)
theorem dX8_of_32 : decode cX8_of 32 = .ok (.ireturn, 1) := dk_172 (dk_at dksX8_of_1 8 rfl rfl)
abbrev cX8_wrong : ByteArray := prog_24_method_7_code
def yX8_wrong : MethodName := ⟨RX8, "wrong", "(II)V"⟩
def dkwX8_wrong_0 : List UInt8 := [42, 180, 0, 127, 2, 159, 0, 4, 177, 42, 28, 181, 0, 127, 42, 27, 181, 0, 130, 177]
abbrev dktX8_wrong_0 : List UInt8 := dkwX8_wrong_0 ++ []
theorem dksX8_wrong_0 : cX8_wrong.data.toList.drop 0 = dktX8_wrong_0 := by decide +kernel
theorem dX8_wrong_0 : decode cX8_wrong 0 = .ok (.aload_n 0, 1) := dk_42 (dk_at dksX8_wrong_0 0 rfl rfl)
theorem dX8_wrong_1 : decode cX8_wrong 1 = .ok (.getfield 127, 3) := dk_180 0 127 (dk_at dksX8_wrong_0 1 rfl rfl)
theorem dX8_wrong_4 : decode cX8_wrong 4 = .ok (.iconst (-1), 1) := dk_2 (dk_at dksX8_wrong_0 4 rfl rfl)
theorem dX8_wrong_5 : decode cX8_wrong 5 = .ok (.if_icmp .eq 4, 3) := dk_159 0 4 (dk_at dksX8_wrong_0 5 rfl rfl)
theorem dX8_wrong_8 : decode cX8_wrong 8 = .ok (.return_, 1) := dk_177 (dk_at dksX8_wrong_0 8 rfl rfl)
theorem dX8_wrong_9 : decode cX8_wrong 9 = .ok (.aload_n 0, 1) := dk_42 (dk_at dksX8_wrong_0 9 rfl rfl)
theorem dX8_wrong_10 : decode cX8_wrong 10 = .ok (.iload_n 2, 1) := dk_28 (dk_at dksX8_wrong_0 10 rfl rfl)
theorem dX8_wrong_11 : decode cX8_wrong 11 = .ok (.putfield 127, 3) := dk_181 0 127 (dk_at dksX8_wrong_0 11 rfl rfl)
theorem dX8_wrong_14 : decode cX8_wrong 14 = .ok (.aload_n 0, 1) := dk_42 (dk_at dksX8_wrong_0 14 rfl rfl)
theorem dX8_wrong_15 : decode cX8_wrong 15 = .ok (.iload_n 1, 1) := dk_27 (dk_at dksX8_wrong_0 15 rfl rfl)
theorem dX8_wrong_16 : decode cX8_wrong 16 = .ok (.putfield 130, 3) := dk_181 0 130 (dk_at dksX8_wrong_0 16 rfl rfl)
theorem dX8_wrong_19 : decode cX8_wrong 19 = .ok (.return_, 1) := dk_177 (dk_at dksX8_wrong_0 19 rfl rfl)
abbrev cX8_pass : ByteArray := prog_24_method_13_code
def yX8_pass : MethodName := ⟨RX8, "pass", "()V"⟩
def dkwX8_pass_1 : List UInt8 := [153, 0, 16, 42, 89, 180, 0, 133, 4, 96, 181, 0, 133, 167, 255, 220, 177]
abbrev dktX8_pass_1 : List UInt8 := dkwX8_pass_1 ++ []
def dkwX8_pass_0 : List UInt8 := [42, 180, 0, 133, 42, 180, 0, 136, 162, 0, 31, 42, 180, 0, 20, 42, 180, 0, 133, 46, 184, 0, 143]
abbrev dktX8_pass_0 : List UInt8 := dkwX8_pass_0 ++ dktX8_pass_1
theorem dksX8_pass_0 : cX8_pass.data.toList.drop 0 = dktX8_pass_0 := by decide +kernel
theorem dksX8_pass_1 : cX8_pass.data.toList.drop 23 = dktX8_pass_1 := dk_seg dksX8_pass_0 23 rfl rfl
theorem dX8_pass_0 : decode cX8_pass 0 = .ok (.aload_n 0, 1) := dk_42 (dk_at dksX8_pass_0 0 rfl rfl)
theorem dX8_pass_1 : decode cX8_pass 1 = .ok (.getfield 133, 3) := dk_180 0 133 (dk_at dksX8_pass_0 1 rfl rfl)
theorem dX8_pass_4 : decode cX8_pass 4 = .ok (.aload_n 0, 1) := dk_42 (dk_at dksX8_pass_0 4 rfl rfl)
theorem dX8_pass_5 : decode cX8_pass 5 = .ok (.getfield 136, 3) := dk_180 0 136 (dk_at dksX8_pass_0 5 rfl rfl)
theorem dX8_pass_8 : decode cX8_pass 8 = .ok (.if_icmp .ge 31, 3) := dk_162 0 31 (dk_at dksX8_pass_0 8 rfl rfl)
theorem dX8_pass_11 : decode cX8_pass 11 = .ok (.aload_n 0, 1) := dk_42 (dk_at dksX8_pass_0 11 rfl rfl)
theorem dX8_pass_12 : decode cX8_pass 12 = .ok (.getfield 20, 3) := dk_180 0 20 (dk_at dksX8_pass_0 12 rfl rfl)
theorem dX8_pass_15 : decode cX8_pass 15 = .ok (.aload_n 0, 1) := dk_42 (dk_at dksX8_pass_0 15 rfl rfl)
theorem dX8_pass_16 : decode cX8_pass 16 = .ok (.getfield 133, 3) := dk_180 0 133 (dk_at dksX8_pass_0 16 rfl rfl)
theorem dX8_pass_19 : decode cX8_pass 19 = .ok (.iaload, 1) := dk_46 (dk_at dksX8_pass_0 19 rfl rfl)
theorem dX8_pass_20 : decode cX8_pass 20 = .ok (.invokestatic 143, 3) := dk_184 0 143 (dk_at dksX8_pass_0 20 rfl rfl)
theorem dX8_pass_23 : decode cX8_pass 23 = .ok (.ifCond .eq 16, 3) := dk_153 0 16 (dk_at dksX8_pass_1 0 rfl rfl)
theorem dX8_pass_26 : decode cX8_pass 26 = .ok (.aload_n 0, 1) := dk_42 (dk_at dksX8_pass_1 3 rfl rfl)
theorem dX8_pass_27 : decode cX8_pass 27 = .ok (.dup, 1) := dk_89 (dk_at dksX8_pass_1 4 rfl rfl)
theorem dX8_pass_28 : decode cX8_pass 28 = .ok (.getfield 133, 3) := dk_180 0 133 (dk_at dksX8_pass_1 5 rfl rfl)
theorem dX8_pass_31 : decode cX8_pass 31 = .ok (.iconst 1, 1) := dk_4 (dk_at dksX8_pass_1 8 rfl rfl)
theorem dX8_pass_32 : decode cX8_pass 32 = .ok (.iadd, 1) := dk_96 (dk_at dksX8_pass_1 9 rfl rfl)
theorem dX8_pass_33 : decode cX8_pass 33 = .ok (.putfield 133, 3) := dk_181 0 133 (dk_at dksX8_pass_1 10 rfl rfl)
theorem dX8_pass_36 : decode cX8_pass 36 = .ok (.goto (-36), 3) := dk_167 255 220 (dk_at dksX8_pass_1 13 rfl rfl)
theorem dX8_pass_39 : decode cX8_pass 39 = .ok (.return_, 1) := dk_177 (dk_at dksX8_pass_1 16 rfl rfl)
abbrev cX8_readRow : ByteArray := prog_24_method_25_code
def yX8_readRow : MethodName := ⟨RX8, "readRow", "(I)V"⟩
def dkwX8_readRow_7 : List UInt8 := [29, 79, 177]
abbrev dktX8_readRow_7 : List UInt8 := dkwX8_readRow_7 ++ []
def dkwX8_readRow_6 : List UInt8 := [182, 0, 201, 61, 42, 3, 16, 9, 182, 0, 201, 62, 42, 182, 0, 156, 153, 0, 10, 42, 180, 0, 32, 28]
abbrev dktX8_readRow_6 : List UInt8 := dkwX8_readRow_6 ++ dktX8_readRow_7
def dkwX8_readRow_5 : List UInt8 := [167, 0, 49, 27, 18, 211, 184, 0, 206, 160, 0, 10, 42, 182, 0, 213, 167, 0, 33, 42, 3, 16, 11]
abbrev dktX8_readRow_5 : List UInt8 := dkwX8_readRow_5 ++ dktX8_readRow_6
def dkwX8_readRow_4 : List UInt8 := [180, 0, 173, 104, 4, 96, 42, 3, 16, 9, 182, 0, 201, 79, 42, 89, 180, 0, 173, 4, 96, 181, 0, 173]
abbrev dktX8_readRow_4 : List UInt8 := dkwX8_readRow_4 ++ dktX8_readRow_5
def dkwX8_readRow_3 : List UInt8 := [180, 0, 26, 5, 42, 180, 0, 173, 104, 42, 4, 17, 0, 200, 182, 0, 201, 79, 42, 180, 0, 26, 5, 42]
abbrev dktX8_readRow_3 : List UInt8 := dkwX8_readRow_3 ++ dktX8_readRow_4
def dkwX8_readRow_2 : List UInt8 := [42, 89, 180, 0, 170, 4, 96, 181, 0, 170, 167, 0, 110, 27, 18, 210, 184, 0, 206, 160, 0, 55, 42]
abbrev dktX8_readRow_2 : List UInt8 := dkwX8_readRow_2 ++ dktX8_readRow_3
def dkwX8_readRow_1 : List UInt8 := [182, 0, 201, 79, 42, 180, 0, 23, 5, 42, 180, 0, 170, 104, 4, 96, 42, 3, 16, 9, 182, 0, 201, 79]
abbrev dktX8_readRow_1 : List UInt8 := dkwX8_readRow_1 ++ dktX8_readRow_2
def dkwX8_readRow_0 : List UInt8 := [27, 18, 205, 184, 0, 206, 160, 0, 54, 42, 180, 0, 23, 5, 42, 180, 0, 170, 104, 42, 4, 16, 60]
abbrev dktX8_readRow_0 : List UInt8 := dkwX8_readRow_0 ++ dktX8_readRow_1
theorem dksX8_readRow_0 : cX8_readRow.data.toList.drop 0 = dktX8_readRow_0 := by decide +kernel
theorem dksX8_readRow_1 : cX8_readRow.data.toList.drop 23 = dktX8_readRow_1 := dk_seg dksX8_readRow_0 23 rfl rfl
theorem dksX8_readRow_2 : cX8_readRow.data.toList.drop 47 = dktX8_readRow_2 := dk_seg dksX8_readRow_1 24 rfl rfl
theorem dksX8_readRow_3 : cX8_readRow.data.toList.drop 70 = dktX8_readRow_3 := dk_seg dksX8_readRow_2 23 rfl rfl
theorem dksX8_readRow_4 : cX8_readRow.data.toList.drop 94 = dktX8_readRow_4 := dk_seg dksX8_readRow_3 24 rfl rfl
theorem dksX8_readRow_5 : cX8_readRow.data.toList.drop 118 = dktX8_readRow_5 := dk_seg dksX8_readRow_4 24 rfl rfl
theorem dksX8_readRow_6 : cX8_readRow.data.toList.drop 141 = dktX8_readRow_6 := dk_seg dksX8_readRow_5 23 rfl rfl
theorem dksX8_readRow_7 : cX8_readRow.data.toList.drop 165 = dktX8_readRow_7 := dk_seg dksX8_readRow_6 24 rfl rfl
theorem dX8_readRow_0 : decode cX8_readRow 0 = .ok (.iload_n 1, 1) := dk_27 (dk_at dksX8_readRow_0 0 rfl rfl)
theorem dX8_readRow_1 : decode cX8_readRow 1 = .ok (.ldc 205, 2) := dk_18 205 (dk_at dksX8_readRow_0 1 rfl rfl)
theorem dX8_readRow_3 : decode cX8_readRow 3 = .ok (.invokestatic 206, 3) := dk_184 0 206 (dk_at dksX8_readRow_0 3 rfl rfl)
theorem dX8_readRow_6 : decode cX8_readRow 6 = .ok (.if_icmp .ne 54, 3) := dk_160 0 54 (dk_at dksX8_readRow_0 6 rfl rfl)
theorem dX8_readRow_9 : decode cX8_readRow 9 = .ok (.aload_n 0, 1) := dk_42 (dk_at dksX8_readRow_0 9 rfl rfl)
theorem dX8_readRow_10 : decode cX8_readRow 10 = .ok (.getfield 23, 3) := dk_180 0 23 (dk_at dksX8_readRow_0 10 rfl rfl)
theorem dX8_readRow_13 : decode cX8_readRow 13 = .ok (.iconst 2, 1) := dk_5 (dk_at dksX8_readRow_0 13 rfl rfl)
theorem dX8_readRow_14 : decode cX8_readRow 14 = .ok (.aload_n 0, 1) := dk_42 (dk_at dksX8_readRow_0 14 rfl rfl)
theorem dX8_readRow_15 : decode cX8_readRow 15 = .ok (.getfield 170, 3) := dk_180 0 170 (dk_at dksX8_readRow_0 15 rfl rfl)
theorem dX8_readRow_18 : decode cX8_readRow 18 = .ok (.imul, 1) := dk_104 (dk_at dksX8_readRow_0 18 rfl rfl)
theorem dX8_readRow_19 : decode cX8_readRow 19 = .ok (.aload_n 0, 1) := dk_42 (dk_at dksX8_readRow_0 19 rfl rfl)
theorem dX8_readRow_20 : decode cX8_readRow 20 = .ok (.iconst 1, 1) := dk_4 (dk_at dksX8_readRow_0 20 rfl rfl)
theorem dX8_readRow_21 : decode cX8_readRow 21 = .ok (.bipush 60, 2) := dk_16 60 (dk_at dksX8_readRow_0 21 rfl rfl)
theorem dX8_readRow_23 : decode cX8_readRow 23 = .ok (.invokevirtual 201, 3) := dk_182 0 201 (dk_at dksX8_readRow_1 0 rfl rfl)
theorem dX8_readRow_26 : decode cX8_readRow 26 = .ok (.iastore, 1) := dk_79 (dk_at dksX8_readRow_1 3 rfl rfl)
theorem dX8_readRow_27 : decode cX8_readRow 27 = .ok (.aload_n 0, 1) := dk_42 (dk_at dksX8_readRow_1 4 rfl rfl)
theorem dX8_readRow_28 : decode cX8_readRow 28 = .ok (.getfield 23, 3) := dk_180 0 23 (dk_at dksX8_readRow_1 5 rfl rfl)
theorem dX8_readRow_31 : decode cX8_readRow 31 = .ok (.iconst 2, 1) := dk_5 (dk_at dksX8_readRow_1 8 rfl rfl)
theorem dX8_readRow_32 : decode cX8_readRow 32 = .ok (.aload_n 0, 1) := dk_42 (dk_at dksX8_readRow_1 9 rfl rfl)
theorem dX8_readRow_33 : decode cX8_readRow 33 = .ok (.getfield 170, 3) := dk_180 0 170 (dk_at dksX8_readRow_1 10 rfl rfl)
theorem dX8_readRow_36 : decode cX8_readRow 36 = .ok (.imul, 1) := dk_104 (dk_at dksX8_readRow_1 13 rfl rfl)
theorem dX8_readRow_37 : decode cX8_readRow 37 = .ok (.iconst 1, 1) := dk_4 (dk_at dksX8_readRow_1 14 rfl rfl)
theorem dX8_readRow_38 : decode cX8_readRow 38 = .ok (.iadd, 1) := dk_96 (dk_at dksX8_readRow_1 15 rfl rfl)
theorem dX8_readRow_39 : decode cX8_readRow 39 = .ok (.aload_n 0, 1) := dk_42 (dk_at dksX8_readRow_1 16 rfl rfl)
theorem dX8_readRow_40 : decode cX8_readRow 40 = .ok (.iconst 0, 1) := dk_3 (dk_at dksX8_readRow_1 17 rfl rfl)
theorem dX8_readRow_41 : decode cX8_readRow 41 = .ok (.bipush 9, 2) := dk_16 9 (dk_at dksX8_readRow_1 18 rfl rfl)
theorem dX8_readRow_43 : decode cX8_readRow 43 = .ok (.invokevirtual 201, 3) := dk_182 0 201 (dk_at dksX8_readRow_1 20 rfl rfl)
theorem dX8_readRow_46 : decode cX8_readRow 46 = .ok (.iastore, 1) := dk_79 (dk_at dksX8_readRow_1 23 rfl rfl)
theorem dX8_readRow_47 : decode cX8_readRow 47 = .ok (.aload_n 0, 1) := dk_42 (dk_at dksX8_readRow_2 0 rfl rfl)
theorem dX8_readRow_48 : decode cX8_readRow 48 = .ok (.dup, 1) := dk_89 (dk_at dksX8_readRow_2 1 rfl rfl)
theorem dX8_readRow_49 : decode cX8_readRow 49 = .ok (.getfield 170, 3) := dk_180 0 170 (dk_at dksX8_readRow_2 2 rfl rfl)
theorem dX8_readRow_52 : decode cX8_readRow 52 = .ok (.iconst 1, 1) := dk_4 (dk_at dksX8_readRow_2 5 rfl rfl)
theorem dX8_readRow_53 : decode cX8_readRow 53 = .ok (.iadd, 1) := dk_96 (dk_at dksX8_readRow_2 6 rfl rfl)
theorem dX8_readRow_54 : decode cX8_readRow 54 = .ok (.putfield 170, 3) := dk_181 0 170 (dk_at dksX8_readRow_2 7 rfl rfl)
theorem dX8_readRow_57 : decode cX8_readRow 57 = .ok (.goto 110, 3) := dk_167 0 110 (dk_at dksX8_readRow_2 10 rfl rfl)
theorem dX8_readRow_60 : decode cX8_readRow 60 = .ok (.iload_n 1, 1) := dk_27 (dk_at dksX8_readRow_2 13 rfl rfl)
theorem dX8_readRow_61 : decode cX8_readRow 61 = .ok (.ldc 210, 2) := dk_18 210 (dk_at dksX8_readRow_2 14 rfl rfl)
theorem dX8_readRow_63 : decode cX8_readRow 63 = .ok (.invokestatic 206, 3) := dk_184 0 206 (dk_at dksX8_readRow_2 16 rfl rfl)
theorem dX8_readRow_66 : decode cX8_readRow 66 = .ok (.if_icmp .ne 55, 3) := dk_160 0 55 (dk_at dksX8_readRow_2 19 rfl rfl)
theorem dX8_readRow_69 : decode cX8_readRow 69 = .ok (.aload_n 0, 1) := dk_42 (dk_at dksX8_readRow_2 22 rfl rfl)
theorem dX8_readRow_70 : decode cX8_readRow 70 = .ok (.getfield 26, 3) := dk_180 0 26 (dk_at dksX8_readRow_3 0 rfl rfl)
theorem dX8_readRow_73 : decode cX8_readRow 73 = .ok (.iconst 2, 1) := dk_5 (dk_at dksX8_readRow_3 3 rfl rfl)
theorem dX8_readRow_74 : decode cX8_readRow 74 = .ok (.aload_n 0, 1) := dk_42 (dk_at dksX8_readRow_3 4 rfl rfl)
theorem dX8_readRow_75 : decode cX8_readRow 75 = .ok (.getfield 173, 3) := dk_180 0 173 (dk_at dksX8_readRow_3 5 rfl rfl)
theorem dX8_readRow_78 : decode cX8_readRow 78 = .ok (.imul, 1) := dk_104 (dk_at dksX8_readRow_3 8 rfl rfl)
theorem dX8_readRow_79 : decode cX8_readRow 79 = .ok (.aload_n 0, 1) := dk_42 (dk_at dksX8_readRow_3 9 rfl rfl)
theorem dX8_readRow_80 : decode cX8_readRow 80 = .ok (.iconst 1, 1) := dk_4 (dk_at dksX8_readRow_3 10 rfl rfl)
theorem dX8_readRow_81 : decode cX8_readRow 81 = .ok (.sipush 200, 3) := dk_17 0 200 (dk_at dksX8_readRow_3 11 rfl rfl)
theorem dX8_readRow_84 : decode cX8_readRow 84 = .ok (.invokevirtual 201, 3) := dk_182 0 201 (dk_at dksX8_readRow_3 14 rfl rfl)
theorem dX8_readRow_87 : decode cX8_readRow 87 = .ok (.iastore, 1) := dk_79 (dk_at dksX8_readRow_3 17 rfl rfl)
theorem dX8_readRow_88 : decode cX8_readRow 88 = .ok (.aload_n 0, 1) := dk_42 (dk_at dksX8_readRow_3 18 rfl rfl)
theorem dX8_readRow_89 : decode cX8_readRow 89 = .ok (.getfield 26, 3) := dk_180 0 26 (dk_at dksX8_readRow_3 19 rfl rfl)
theorem dX8_readRow_92 : decode cX8_readRow 92 = .ok (.iconst 2, 1) := dk_5 (dk_at dksX8_readRow_3 22 rfl rfl)
theorem dX8_readRow_93 : decode cX8_readRow 93 = .ok (.aload_n 0, 1) := dk_42 (dk_at dksX8_readRow_3 23 rfl rfl)
theorem dX8_readRow_94 : decode cX8_readRow 94 = .ok (.getfield 173, 3) := dk_180 0 173 (dk_at dksX8_readRow_4 0 rfl rfl)
theorem dX8_readRow_97 : decode cX8_readRow 97 = .ok (.imul, 1) := dk_104 (dk_at dksX8_readRow_4 3 rfl rfl)
theorem dX8_readRow_98 : decode cX8_readRow 98 = .ok (.iconst 1, 1) := dk_4 (dk_at dksX8_readRow_4 4 rfl rfl)
theorem dX8_readRow_99 : decode cX8_readRow 99 = .ok (.iadd, 1) := dk_96 (dk_at dksX8_readRow_4 5 rfl rfl)
theorem dX8_readRow_100 : decode cX8_readRow 100 = .ok (.aload_n 0, 1) := dk_42 (dk_at dksX8_readRow_4 6 rfl rfl)
theorem dX8_readRow_101 : decode cX8_readRow 101 = .ok (.iconst 0, 1) := dk_3 (dk_at dksX8_readRow_4 7 rfl rfl)
theorem dX8_readRow_102 : decode cX8_readRow 102 = .ok (.bipush 9, 2) := dk_16 9 (dk_at dksX8_readRow_4 8 rfl rfl)
theorem dX8_readRow_104 : decode cX8_readRow 104 = .ok (.invokevirtual 201, 3) := dk_182 0 201 (dk_at dksX8_readRow_4 10 rfl rfl)
theorem dX8_readRow_107 : decode cX8_readRow 107 = .ok (.iastore, 1) := dk_79 (dk_at dksX8_readRow_4 13 rfl rfl)
theorem dX8_readRow_108 : decode cX8_readRow 108 = .ok (.aload_n 0, 1) := dk_42 (dk_at dksX8_readRow_4 14 rfl rfl)
theorem dX8_readRow_109 : decode cX8_readRow 109 = .ok (.dup, 1) := dk_89 (dk_at dksX8_readRow_4 15 rfl rfl)
theorem dX8_readRow_110 : decode cX8_readRow 110 = .ok (.getfield 173, 3) := dk_180 0 173 (dk_at dksX8_readRow_4 16 rfl rfl)
theorem dX8_readRow_113 : decode cX8_readRow 113 = .ok (.iconst 1, 1) := dk_4 (dk_at dksX8_readRow_4 19 rfl rfl)
theorem dX8_readRow_114 : decode cX8_readRow 114 = .ok (.iadd, 1) := dk_96 (dk_at dksX8_readRow_4 20 rfl rfl)
theorem dX8_readRow_115 : decode cX8_readRow 115 = .ok (.putfield 173, 3) := dk_181 0 173 (dk_at dksX8_readRow_4 21 rfl rfl)
theorem dX8_readRow_118 : decode cX8_readRow 118 = .ok (.goto 49, 3) := dk_167 0 49 (dk_at dksX8_readRow_5 0 rfl rfl)
theorem dX8_readRow_121 : decode cX8_readRow 121 = .ok (.iload_n 1, 1) := dk_27 (dk_at dksX8_readRow_5 3 rfl rfl)
theorem dX8_readRow_122 : decode cX8_readRow 122 = .ok (.ldc 211, 2) := dk_18 211 (dk_at dksX8_readRow_5 4 rfl rfl)
theorem dX8_readRow_124 : decode cX8_readRow 124 = .ok (.invokestatic 206, 3) := dk_184 0 206 (dk_at dksX8_readRow_5 6 rfl rfl)
theorem dX8_readRow_127 : decode cX8_readRow 127 = .ok (.if_icmp .ne 10, 3) := dk_160 0 10 (dk_at dksX8_readRow_5 9 rfl rfl)
theorem dX8_readRow_130 : decode cX8_readRow 130 = .ok (.aload_n 0, 1) := dk_42 (dk_at dksX8_readRow_5 12 rfl rfl)
theorem dX8_readRow_131 : decode cX8_readRow 131 = .ok (.invokevirtual 213, 3) := dk_182 0 213 (dk_at dksX8_readRow_5 13 rfl rfl)
theorem dX8_readRow_134 : decode cX8_readRow 134 = .ok (.goto 33, 3) := dk_167 0 33 (dk_at dksX8_readRow_5 16 rfl rfl)
theorem dX8_readRow_137 : decode cX8_readRow 137 = .ok (.aload_n 0, 1) := dk_42 (dk_at dksX8_readRow_5 19 rfl rfl)
theorem dX8_readRow_138 : decode cX8_readRow 138 = .ok (.iconst 0, 1) := dk_3 (dk_at dksX8_readRow_5 20 rfl rfl)
theorem dX8_readRow_139 : decode cX8_readRow 139 = .ok (.bipush 11, 2) := dk_16 11 (dk_at dksX8_readRow_5 21 rfl rfl)
theorem dX8_readRow_141 : decode cX8_readRow 141 = .ok (.invokevirtual 201, 3) := dk_182 0 201 (dk_at dksX8_readRow_6 0 rfl rfl)
theorem dX8_readRow_144 : decode cX8_readRow 144 = .ok (.istore_n 2, 1) := dk_61 (dk_at dksX8_readRow_6 3 rfl rfl)
theorem dX8_readRow_145 : decode cX8_readRow 145 = .ok (.aload_n 0, 1) := dk_42 (dk_at dksX8_readRow_6 4 rfl rfl)
theorem dX8_readRow_146 : decode cX8_readRow 146 = .ok (.iconst 0, 1) := dk_3 (dk_at dksX8_readRow_6 5 rfl rfl)
theorem dX8_readRow_147 : decode cX8_readRow 147 = .ok (.bipush 9, 2) := dk_16 9 (dk_at dksX8_readRow_6 6 rfl rfl)
theorem dX8_readRow_149 : decode cX8_readRow 149 = .ok (.invokevirtual 201, 3) := dk_182 0 201 (dk_at dksX8_readRow_6 8 rfl rfl)
theorem dX8_readRow_152 : decode cX8_readRow 152 = .ok (.istore_n 3, 1) := dk_62 (dk_at dksX8_readRow_6 11 rfl rfl)
theorem dX8_readRow_153 : decode cX8_readRow 153 = .ok (.aload_n 0, 1) := dk_42 (dk_at dksX8_readRow_6 12 rfl rfl)
theorem dX8_readRow_154 : decode cX8_readRow 154 = .ok (.invokevirtual 156, 3) := dk_182 0 156 (dk_at dksX8_readRow_6 13 rfl rfl)
theorem dX8_readRow_157 : decode cX8_readRow 157 = .ok (.ifCond .eq 10, 3) := dk_153 0 10 (dk_at dksX8_readRow_6 16 rfl rfl)
theorem dX8_readRow_160 : decode cX8_readRow 160 = .ok (.aload_n 0, 1) := dk_42 (dk_at dksX8_readRow_6 19 rfl rfl)
theorem dX8_readRow_161 : decode cX8_readRow 161 = .ok (.getfield 32, 3) := dk_180 0 32 (dk_at dksX8_readRow_6 20 rfl rfl)
theorem dX8_readRow_164 : decode cX8_readRow 164 = .ok (.iload_n 2, 1) := dk_28 (dk_at dksX8_readRow_6 23 rfl rfl)
theorem dX8_readRow_165 : decode cX8_readRow 165 = .ok (.iload_n 3, 1) := dk_29 (dk_at dksX8_readRow_7 0 rfl rfl)
theorem dX8_readRow_166 : decode cX8_readRow 166 = .ok (.iastore, 1) := dk_79 (dk_at dksX8_readRow_7 1 rfl rfl)
theorem dX8_readRow_167 : decode cX8_readRow 167 = .ok (.return_, 1) := dk_177 (dk_at dksX8_readRow_7 2 rfl rfl)
abbrev cX8_readNumber : ByteArray := prog_24_method_14_code
def yX8_readNumber : MethodName := ⟨RX8, "readNumber", "(II)I"⟩
def dkwX8_readNumber_5 : List UInt8 := [21, 5, 27, 161, 0, 9, 21, 5, 28, 164, 0, 12, 42, 5, 21, 4, 182, 0, 163, 3, 172, 21, 5, 172]
abbrev dktX8_readNumber_5 : List UInt8 := dkwX8_readNumber_5 ++ []
def dkwX8_readNumber_4 : List UInt8 := [180, 0, 133, 46, 96, 16, 48, 100, 54, 5, 42, 89, 180, 0, 133, 4, 96, 181, 0, 133, 167, 255, 186]
abbrev dktX8_readNumber_4 : List UInt8 := dkwX8_readNumber_4 ++ dktX8_readNumber_5
def dkwX8_readNumber_3 : List UInt8 := [17, 39, 15, 164, 0, 9, 17, 39, 16, 167, 0, 21, 16, 10, 21, 5, 104, 42, 180, 0, 20, 42]
abbrev dktX8_readNumber_3 : List UInt8 := dkwX8_readNumber_3 ++ dktX8_readNumber_4
def dkwX8_readNumber_2 : List UInt8 := [180, 0, 136, 162, 0, 65, 42, 180, 0, 20, 42, 180, 0, 133, 46, 184, 0, 160, 153, 0, 50, 21, 5]
abbrev dktX8_readNumber_2 : List UInt8 := dkwX8_readNumber_2 ++ dktX8_readNumber_3
def dkwX8_readNumber_1 : List UInt8 := [184, 0, 160, 154, 0, 14, 42, 4, 42, 180, 0, 133, 182, 0, 163, 3, 172, 42, 180, 0, 133, 42]
abbrev dktX8_readNumber_1 : List UInt8 := dkwX8_readNumber_1 ++ dktX8_readNumber_2
def dkwX8_readNumber_0 : List UInt8 := [42, 182, 0, 156, 154, 0, 5, 3, 172, 42, 182, 0, 139, 62, 42, 180, 0, 133, 54, 4, 3, 54, 5, 29]
abbrev dktX8_readNumber_0 : List UInt8 := dkwX8_readNumber_0 ++ dktX8_readNumber_1
theorem dksX8_readNumber_0 : cX8_readNumber.data.toList.drop 0 = dktX8_readNumber_0 := by decide +kernel
theorem dksX8_readNumber_1 : cX8_readNumber.data.toList.drop 24 = dktX8_readNumber_1 := dk_seg dksX8_readNumber_0 24 rfl rfl
theorem dksX8_readNumber_2 : cX8_readNumber.data.toList.drop 46 = dktX8_readNumber_2 := dk_seg dksX8_readNumber_1 22 rfl rfl
theorem dksX8_readNumber_3 : cX8_readNumber.data.toList.drop 69 = dktX8_readNumber_3 := dk_seg dksX8_readNumber_2 23 rfl rfl
theorem dksX8_readNumber_4 : cX8_readNumber.data.toList.drop 91 = dktX8_readNumber_4 := dk_seg dksX8_readNumber_3 22 rfl rfl
theorem dksX8_readNumber_5 : cX8_readNumber.data.toList.drop 114 = dktX8_readNumber_5 := dk_seg dksX8_readNumber_4 23 rfl rfl
theorem dX8_readNumber_0 : decode cX8_readNumber 0 = .ok (.aload_n 0, 1) := dk_42 (dk_at dksX8_readNumber_0 0 rfl rfl)
theorem dX8_readNumber_1 : decode cX8_readNumber 1 = .ok (.invokevirtual 156, 3) := dk_182 0 156 (dk_at dksX8_readNumber_0 1 rfl rfl)
theorem dX8_readNumber_4 : decode cX8_readNumber 4 = .ok (.ifCond .ne 5, 3) := dk_154 0 5 (dk_at dksX8_readNumber_0 4 rfl rfl)
theorem dX8_readNumber_7 : decode cX8_readNumber 7 = .ok (.iconst 0, 1) := dk_3 (dk_at dksX8_readNumber_0 7 rfl rfl)
theorem dX8_readNumber_8 : decode cX8_readNumber 8 = .ok (.ireturn, 1) := dk_172 (dk_at dksX8_readNumber_0 8 rfl rfl)
theorem dX8_readNumber_9 : decode cX8_readNumber 9 = .ok (.aload_n 0, 1) := dk_42 (dk_at dksX8_readNumber_0 9 rfl rfl)
theorem dX8_readNumber_10 : decode cX8_readNumber 10 = .ok (.invokevirtual 139, 3) := dk_182 0 139 (dk_at dksX8_readNumber_0 10 rfl rfl)
theorem dX8_readNumber_13 : decode cX8_readNumber 13 = .ok (.istore_n 3, 1) := dk_62 (dk_at dksX8_readNumber_0 13 rfl rfl)
theorem dX8_readNumber_14 : decode cX8_readNumber 14 = .ok (.aload_n 0, 1) := dk_42 (dk_at dksX8_readNumber_0 14 rfl rfl)
theorem dX8_readNumber_15 : decode cX8_readNumber 15 = .ok (.getfield 133, 3) := dk_180 0 133 (dk_at dksX8_readNumber_0 15 rfl rfl)
theorem dX8_readNumber_18 : decode cX8_readNumber 18 = .ok (.istore 4, 2) := dk_54 4 (dk_at dksX8_readNumber_0 18 rfl rfl)
theorem dX8_readNumber_20 : decode cX8_readNumber 20 = .ok (.iconst 0, 1) := dk_3 (dk_at dksX8_readNumber_0 20 rfl rfl)
theorem dX8_readNumber_21 : decode cX8_readNumber 21 = .ok (.istore 5, 2) := dk_54 5 (dk_at dksX8_readNumber_0 21 rfl rfl)
theorem dX8_readNumber_23 : decode cX8_readNumber 23 = .ok (.iload_n 3, 1) := dk_29 (dk_at dksX8_readNumber_0 23 rfl rfl)
theorem dX8_readNumber_24 : decode cX8_readNumber 24 = .ok (.invokestatic 160, 3) := dk_184 0 160 (dk_at dksX8_readNumber_1 0 rfl rfl)
theorem dX8_readNumber_27 : decode cX8_readNumber 27 = .ok (.ifCond .ne 14, 3) := dk_154 0 14 (dk_at dksX8_readNumber_1 3 rfl rfl)
theorem dX8_readNumber_30 : decode cX8_readNumber 30 = .ok (.aload_n 0, 1) := dk_42 (dk_at dksX8_readNumber_1 6 rfl rfl)
theorem dX8_readNumber_31 : decode cX8_readNumber 31 = .ok (.iconst 1, 1) := dk_4 (dk_at dksX8_readNumber_1 7 rfl rfl)
theorem dX8_readNumber_32 : decode cX8_readNumber 32 = .ok (.aload_n 0, 1) := dk_42 (dk_at dksX8_readNumber_1 8 rfl rfl)
theorem dX8_readNumber_33 : decode cX8_readNumber 33 = .ok (.getfield 133, 3) := dk_180 0 133 (dk_at dksX8_readNumber_1 9 rfl rfl)
theorem dX8_readNumber_36 : decode cX8_readNumber 36 = .ok (.invokevirtual 163, 3) := dk_182 0 163 (dk_at dksX8_readNumber_1 12 rfl rfl)
theorem dX8_readNumber_39 : decode cX8_readNumber 39 = .ok (.iconst 0, 1) := dk_3 (dk_at dksX8_readNumber_1 15 rfl rfl)
theorem dX8_readNumber_40 : decode cX8_readNumber 40 = .ok (.ireturn, 1) := dk_172 (dk_at dksX8_readNumber_1 16 rfl rfl)
theorem dX8_readNumber_41 : decode cX8_readNumber 41 = .ok (.aload_n 0, 1) := dk_42 (dk_at dksX8_readNumber_1 17 rfl rfl)
theorem dX8_readNumber_42 : decode cX8_readNumber 42 = .ok (.getfield 133, 3) := dk_180 0 133 (dk_at dksX8_readNumber_1 18 rfl rfl)
theorem dX8_readNumber_45 : decode cX8_readNumber 45 = .ok (.aload_n 0, 1) := dk_42 (dk_at dksX8_readNumber_1 21 rfl rfl)
theorem dX8_readNumber_46 : decode cX8_readNumber 46 = .ok (.getfield 136, 3) := dk_180 0 136 (dk_at dksX8_readNumber_2 0 rfl rfl)
theorem dX8_readNumber_49 : decode cX8_readNumber 49 = .ok (.if_icmp .ge 65, 3) := dk_162 0 65 (dk_at dksX8_readNumber_2 3 rfl rfl)
theorem dX8_readNumber_52 : decode cX8_readNumber 52 = .ok (.aload_n 0, 1) := dk_42 (dk_at dksX8_readNumber_2 6 rfl rfl)
theorem dX8_readNumber_53 : decode cX8_readNumber 53 = .ok (.getfield 20, 3) := dk_180 0 20 (dk_at dksX8_readNumber_2 7 rfl rfl)
theorem dX8_readNumber_56 : decode cX8_readNumber 56 = .ok (.aload_n 0, 1) := dk_42 (dk_at dksX8_readNumber_2 10 rfl rfl)
theorem dX8_readNumber_57 : decode cX8_readNumber 57 = .ok (.getfield 133, 3) := dk_180 0 133 (dk_at dksX8_readNumber_2 11 rfl rfl)
theorem dX8_readNumber_60 : decode cX8_readNumber 60 = .ok (.iaload, 1) := dk_46 (dk_at dksX8_readNumber_2 14 rfl rfl)
theorem dX8_readNumber_61 : decode cX8_readNumber 61 = .ok (.invokestatic 160, 3) := dk_184 0 160 (dk_at dksX8_readNumber_2 15 rfl rfl)
theorem dX8_readNumber_64 : decode cX8_readNumber 64 = .ok (.ifCond .eq 50, 3) := dk_153 0 50 (dk_at dksX8_readNumber_2 18 rfl rfl)
theorem dX8_readNumber_67 : decode cX8_readNumber 67 = .ok (.iload 5, 2) := dk_21 5 (dk_at dksX8_readNumber_2 21 rfl rfl)
theorem dX8_readNumber_69 : decode cX8_readNumber 69 = .ok (.sipush 9999, 3) := dk_17 39 15 (dk_at dksX8_readNumber_3 0 rfl rfl)
theorem dX8_readNumber_72 : decode cX8_readNumber 72 = .ok (.if_icmp .le 9, 3) := dk_164 0 9 (dk_at dksX8_readNumber_3 3 rfl rfl)
theorem dX8_readNumber_75 : decode cX8_readNumber 75 = .ok (.sipush 10000, 3) := dk_17 39 16 (dk_at dksX8_readNumber_3 6 rfl rfl)
theorem dX8_readNumber_78 : decode cX8_readNumber 78 = .ok (.goto 21, 3) := dk_167 0 21 (dk_at dksX8_readNumber_3 9 rfl rfl)
theorem dX8_readNumber_81 : decode cX8_readNumber 81 = .ok (.bipush 10, 2) := dk_16 10 (dk_at dksX8_readNumber_3 12 rfl rfl)
theorem dX8_readNumber_83 : decode cX8_readNumber 83 = .ok (.iload 5, 2) := dk_21 5 (dk_at dksX8_readNumber_3 14 rfl rfl)
theorem dX8_readNumber_85 : decode cX8_readNumber 85 = .ok (.imul, 1) := dk_104 (dk_at dksX8_readNumber_3 16 rfl rfl)
theorem dX8_readNumber_86 : decode cX8_readNumber 86 = .ok (.aload_n 0, 1) := dk_42 (dk_at dksX8_readNumber_3 17 rfl rfl)
theorem dX8_readNumber_87 : decode cX8_readNumber 87 = .ok (.getfield 20, 3) := dk_180 0 20 (dk_at dksX8_readNumber_3 18 rfl rfl)
theorem dX8_readNumber_90 : decode cX8_readNumber 90 = .ok (.aload_n 0, 1) := dk_42 (dk_at dksX8_readNumber_3 21 rfl rfl)
theorem dX8_readNumber_91 : decode cX8_readNumber 91 = .ok (.getfield 133, 3) := dk_180 0 133 (dk_at dksX8_readNumber_4 0 rfl rfl)
theorem dX8_readNumber_94 : decode cX8_readNumber 94 = .ok (.iaload, 1) := dk_46 (dk_at dksX8_readNumber_4 3 rfl rfl)
theorem dX8_readNumber_95 : decode cX8_readNumber 95 = .ok (.iadd, 1) := dk_96 (dk_at dksX8_readNumber_4 4 rfl rfl)
theorem dX8_readNumber_96 : decode cX8_readNumber 96 = .ok (.bipush 48, 2) := dk_16 48 (dk_at dksX8_readNumber_4 5 rfl rfl)
theorem dX8_readNumber_98 : decode cX8_readNumber 98 = .ok (.isub, 1) := dk_100 (dk_at dksX8_readNumber_4 7 rfl rfl)
theorem dX8_readNumber_99 : decode cX8_readNumber 99 = .ok (.istore 5, 2) := dk_54 5 (dk_at dksX8_readNumber_4 8 rfl rfl)
theorem dX8_readNumber_101 : decode cX8_readNumber 101 = .ok (.aload_n 0, 1) := dk_42 (dk_at dksX8_readNumber_4 10 rfl rfl)
theorem dX8_readNumber_102 : decode cX8_readNumber 102 = .ok (.dup, 1) := dk_89 (dk_at dksX8_readNumber_4 11 rfl rfl)
theorem dX8_readNumber_103 : decode cX8_readNumber 103 = .ok (.getfield 133, 3) := dk_180 0 133 (dk_at dksX8_readNumber_4 12 rfl rfl)
theorem dX8_readNumber_106 : decode cX8_readNumber 106 = .ok (.iconst 1, 1) := dk_4 (dk_at dksX8_readNumber_4 15 rfl rfl)
theorem dX8_readNumber_107 : decode cX8_readNumber 107 = .ok (.iadd, 1) := dk_96 (dk_at dksX8_readNumber_4 16 rfl rfl)
theorem dX8_readNumber_108 : decode cX8_readNumber 108 = .ok (.putfield 133, 3) := dk_181 0 133 (dk_at dksX8_readNumber_4 17 rfl rfl)
theorem dX8_readNumber_111 : decode cX8_readNumber 111 = .ok (.goto (-70), 3) := dk_167 255 186 (dk_at dksX8_readNumber_4 20 rfl rfl)
theorem dX8_readNumber_114 : decode cX8_readNumber 114 = .ok (.iload 5, 2) := dk_21 5 (dk_at dksX8_readNumber_5 0 rfl rfl)
theorem dX8_readNumber_116 : decode cX8_readNumber 116 = .ok (.iload_n 1, 1) := dk_27 (dk_at dksX8_readNumber_5 2 rfl rfl)
theorem dX8_readNumber_117 : decode cX8_readNumber 117 = .ok (.if_icmp .lt 9, 3) := dk_161 0 9 (dk_at dksX8_readNumber_5 3 rfl rfl)
theorem dX8_readNumber_120 : decode cX8_readNumber 120 = .ok (.iload 5, 2) := dk_21 5 (dk_at dksX8_readNumber_5 6 rfl rfl)
theorem dX8_readNumber_122 : decode cX8_readNumber 122 = .ok (.iload_n 2, 1) := dk_28 (dk_at dksX8_readNumber_5 8 rfl rfl)
theorem dX8_readNumber_123 : decode cX8_readNumber 123 = .ok (.if_icmp .le 12, 3) := dk_164 0 12 (dk_at dksX8_readNumber_5 9 rfl rfl)
theorem dX8_readNumber_126 : decode cX8_readNumber 126 = .ok (.aload_n 0, 1) := dk_42 (dk_at dksX8_readNumber_5 12 rfl rfl)
theorem dX8_readNumber_127 : decode cX8_readNumber 127 = .ok (.iconst 2, 1) := dk_5 (dk_at dksX8_readNumber_5 13 rfl rfl)
theorem dX8_readNumber_128 : decode cX8_readNumber 128 = .ok (.iload 4, 2) := dk_21 4 (dk_at dksX8_readNumber_5 14 rfl rfl)
theorem dX8_readNumber_130 : decode cX8_readNumber 130 = .ok (.invokevirtual 163, 3) := dk_182 0 163 (dk_at dksX8_readNumber_5 16 rfl rfl)
theorem dX8_readNumber_133 : decode cX8_readNumber 133 = .ok (.iconst 0, 1) := dk_3 (dk_at dksX8_readNumber_5 19 rfl rfl)
theorem dX8_readNumber_134 : decode cX8_readNumber 134 = .ok (.ireturn, 1) := dk_172 (dk_at dksX8_readNumber_5 20 rfl rfl)
theorem dX8_readNumber_135 : decode cX8_readNumber 135 = .ok (.iload 5, 2) := dk_21 5 (dk_at dksX8_readNumber_5 21 rfl rfl)
theorem dX8_readNumber_137 : decode cX8_readNumber 137 = .ok (.ireturn, 1) := dk_172 (dk_at dksX8_readNumber_5 23 rfl rfl)
abbrev cX8_isDigit : ByteArray := prog_24_method_10_code
def yX8_isDigit : MethodName := ⟨RX8, "isDigit", "(I)Z"⟩
def dkwX8_isDigit_0 : List UInt8 := [26, 16, 48, 161, 0, 13, 26, 16, 57, 163, 0, 7, 4, 167, 0, 4, 3, 172]
abbrev dktX8_isDigit_0 : List UInt8 := dkwX8_isDigit_0 ++ []
theorem dksX8_isDigit_0 : cX8_isDigit.data.toList.drop 0 = dktX8_isDigit_0 := by decide +kernel
theorem dX8_isDigit_0 : decode cX8_isDigit 0 = .ok (.iload_n 0, 1) := dk_26 (dk_at dksX8_isDigit_0 0 rfl rfl)
theorem dX8_isDigit_1 : decode cX8_isDigit 1 = .ok (.bipush 48, 2) := dk_16 48 (dk_at dksX8_isDigit_0 1 rfl rfl)
theorem dX8_isDigit_3 : decode cX8_isDigit 3 = .ok (.if_icmp .lt 13, 3) := dk_161 0 13 (dk_at dksX8_isDigit_0 3 rfl rfl)
theorem dX8_isDigit_6 : decode cX8_isDigit 6 = .ok (.iload_n 0, 1) := dk_26 (dk_at dksX8_isDigit_0 6 rfl rfl)
theorem dX8_isDigit_7 : decode cX8_isDigit 7 = .ok (.bipush 57, 2) := dk_16 57 (dk_at dksX8_isDigit_0 7 rfl rfl)
theorem dX8_isDigit_9 : decode cX8_isDigit 9 = .ok (.if_icmp .gt 7, 3) := dk_163 0 7 (dk_at dksX8_isDigit_0 9 rfl rfl)
theorem dX8_isDigit_12 : decode cX8_isDigit 12 = .ok (.iconst 1, 1) := dk_4 (dk_at dksX8_isDigit_0 12 rfl rfl)
theorem dX8_isDigit_13 : decode cX8_isDigit 13 = .ok (.goto 4, 3) := dk_167 0 4 (dk_at dksX8_isDigit_0 13 rfl rfl)
theorem dX8_isDigit_16 : decode cX8_isDigit 16 = .ok (.iconst 0, 1) := dk_3 (dk_at dksX8_isDigit_0 16 rfl rfl)
theorem dX8_isDigit_17 : decode cX8_isDigit 17 = .ok (.ireturn, 1) := dk_172 (dk_at dksX8_isDigit_0 17 rfl rfl)
abbrev cX8_readKin : ByteArray := prog_24_method_23_code
def yX8_readKin : MethodName := ⟨RX8, "readKin", "()V"⟩
def dkwX8_readKin_3 : List UInt8 := [42, 180, 0, 29, 29, 92, 46, 4, 27, 120, 128, 79, 177]
abbrev dktX8_readKin_3 : List UInt8 := dkwX8_readKin_3 ++ []
def dkwX8_readKin_2 : List UInt8 := [28, 182, 0, 163, 42, 182, 0, 156, 154, 0, 4, 177, 42, 180, 0, 29, 27, 92, 46, 4, 29, 120, 128, 79]
abbrev dktX8_readKin_2 : List UInt8 := dkwX8_readKin_2 ++ dktX8_readKin_3
def dkwX8_readKin_1 : List UInt8 := [42, 180, 0, 173, 4, 100, 182, 0, 201, 62, 42, 182, 0, 156, 153, 0, 14, 27, 29, 160, 0, 9, 42, 5]
abbrev dktX8_readKin_1 : List UInt8 := dkwX8_readKin_1 ++ dktX8_readKin_2
def dkwX8_readKin_0 : List UInt8 := [42, 3, 42, 180, 0, 173, 4, 100, 182, 0, 201, 60, 42, 182, 0, 139, 87, 42, 180, 0, 133, 61, 42, 3]
abbrev dktX8_readKin_0 : List UInt8 := dkwX8_readKin_0 ++ dktX8_readKin_1
theorem dksX8_readKin_0 : cX8_readKin.data.toList.drop 0 = dktX8_readKin_0 := by decide +kernel
theorem dksX8_readKin_1 : cX8_readKin.data.toList.drop 24 = dktX8_readKin_1 := dk_seg dksX8_readKin_0 24 rfl rfl
theorem dksX8_readKin_2 : cX8_readKin.data.toList.drop 48 = dktX8_readKin_2 := dk_seg dksX8_readKin_1 24 rfl rfl
theorem dksX8_readKin_3 : cX8_readKin.data.toList.drop 72 = dktX8_readKin_3 := dk_seg dksX8_readKin_2 24 rfl rfl
theorem dX8_readKin_0 : decode cX8_readKin 0 = .ok (.aload_n 0, 1) := dk_42 (dk_at dksX8_readKin_0 0 rfl rfl)
theorem dX8_readKin_1 : decode cX8_readKin 1 = .ok (.iconst 0, 1) := dk_3 (dk_at dksX8_readKin_0 1 rfl rfl)
theorem dX8_readKin_2 : decode cX8_readKin 2 = .ok (.aload_n 0, 1) := dk_42 (dk_at dksX8_readKin_0 2 rfl rfl)
theorem dX8_readKin_3 : decode cX8_readKin 3 = .ok (.getfield 173, 3) := dk_180 0 173 (dk_at dksX8_readKin_0 3 rfl rfl)
theorem dX8_readKin_6 : decode cX8_readKin 6 = .ok (.iconst 1, 1) := dk_4 (dk_at dksX8_readKin_0 6 rfl rfl)
theorem dX8_readKin_7 : decode cX8_readKin 7 = .ok (.isub, 1) := dk_100 (dk_at dksX8_readKin_0 7 rfl rfl)
theorem dX8_readKin_8 : decode cX8_readKin 8 = .ok (.invokevirtual 201, 3) := dk_182 0 201 (dk_at dksX8_readKin_0 8 rfl rfl)
theorem dX8_readKin_11 : decode cX8_readKin 11 = .ok (.istore_n 1, 1) := dk_60 (dk_at dksX8_readKin_0 11 rfl rfl)
theorem dX8_readKin_12 : decode cX8_readKin 12 = .ok (.aload_n 0, 1) := dk_42 (dk_at dksX8_readKin_0 12 rfl rfl)
theorem dX8_readKin_13 : decode cX8_readKin 13 = .ok (.invokevirtual 139, 3) := dk_182 0 139 (dk_at dksX8_readKin_0 13 rfl rfl)
theorem dX8_readKin_16 : decode cX8_readKin 16 = .ok (.pop, 1) := dk_87 (dk_at dksX8_readKin_0 16 rfl rfl)
theorem dX8_readKin_17 : decode cX8_readKin 17 = .ok (.aload_n 0, 1) := dk_42 (dk_at dksX8_readKin_0 17 rfl rfl)
theorem dX8_readKin_18 : decode cX8_readKin 18 = .ok (.getfield 133, 3) := dk_180 0 133 (dk_at dksX8_readKin_0 18 rfl rfl)
theorem dX8_readKin_21 : decode cX8_readKin 21 = .ok (.istore_n 2, 1) := dk_61 (dk_at dksX8_readKin_0 21 rfl rfl)
theorem dX8_readKin_22 : decode cX8_readKin 22 = .ok (.aload_n 0, 1) := dk_42 (dk_at dksX8_readKin_0 22 rfl rfl)
theorem dX8_readKin_23 : decode cX8_readKin 23 = .ok (.iconst 0, 1) := dk_3 (dk_at dksX8_readKin_0 23 rfl rfl)
theorem dX8_readKin_24 : decode cX8_readKin 24 = .ok (.aload_n 0, 1) := dk_42 (dk_at dksX8_readKin_1 0 rfl rfl)
theorem dX8_readKin_25 : decode cX8_readKin 25 = .ok (.getfield 173, 3) := dk_180 0 173 (dk_at dksX8_readKin_1 1 rfl rfl)
theorem dX8_readKin_28 : decode cX8_readKin 28 = .ok (.iconst 1, 1) := dk_4 (dk_at dksX8_readKin_1 4 rfl rfl)
theorem dX8_readKin_29 : decode cX8_readKin 29 = .ok (.isub, 1) := dk_100 (dk_at dksX8_readKin_1 5 rfl rfl)
theorem dX8_readKin_30 : decode cX8_readKin 30 = .ok (.invokevirtual 201, 3) := dk_182 0 201 (dk_at dksX8_readKin_1 6 rfl rfl)
theorem dX8_readKin_33 : decode cX8_readKin 33 = .ok (.istore_n 3, 1) := dk_62 (dk_at dksX8_readKin_1 9 rfl rfl)
theorem dX8_readKin_34 : decode cX8_readKin 34 = .ok (.aload_n 0, 1) := dk_42 (dk_at dksX8_readKin_1 10 rfl rfl)
theorem dX8_readKin_35 : decode cX8_readKin 35 = .ok (.invokevirtual 156, 3) := dk_182 0 156 (dk_at dksX8_readKin_1 11 rfl rfl)
theorem dX8_readKin_38 : decode cX8_readKin 38 = .ok (.ifCond .eq 14, 3) := dk_153 0 14 (dk_at dksX8_readKin_1 14 rfl rfl)
theorem dX8_readKin_41 : decode cX8_readKin 41 = .ok (.iload_n 1, 1) := dk_27 (dk_at dksX8_readKin_1 17 rfl rfl)
theorem dX8_readKin_42 : decode cX8_readKin 42 = .ok (.iload_n 3, 1) := dk_29 (dk_at dksX8_readKin_1 18 rfl rfl)
theorem dX8_readKin_43 : decode cX8_readKin 43 = .ok (.if_icmp .ne 9, 3) := dk_160 0 9 (dk_at dksX8_readKin_1 19 rfl rfl)
theorem dX8_readKin_46 : decode cX8_readKin 46 = .ok (.aload_n 0, 1) := dk_42 (dk_at dksX8_readKin_1 22 rfl rfl)
theorem dX8_readKin_47 : decode cX8_readKin 47 = .ok (.iconst 2, 1) := dk_5 (dk_at dksX8_readKin_1 23 rfl rfl)
theorem dX8_readKin_48 : decode cX8_readKin 48 = .ok (.iload_n 2, 1) := dk_28 (dk_at dksX8_readKin_2 0 rfl rfl)
theorem dX8_readKin_49 : decode cX8_readKin 49 = .ok (.invokevirtual 163, 3) := dk_182 0 163 (dk_at dksX8_readKin_2 1 rfl rfl)
theorem dX8_readKin_52 : decode cX8_readKin 52 = .ok (.aload_n 0, 1) := dk_42 (dk_at dksX8_readKin_2 4 rfl rfl)
theorem dX8_readKin_53 : decode cX8_readKin 53 = .ok (.invokevirtual 156, 3) := dk_182 0 156 (dk_at dksX8_readKin_2 5 rfl rfl)
theorem dX8_readKin_56 : decode cX8_readKin 56 = .ok (.ifCond .ne 4, 3) := dk_154 0 4 (dk_at dksX8_readKin_2 8 rfl rfl)
theorem dX8_readKin_59 : decode cX8_readKin 59 = .ok (.return_, 1) := dk_177 (dk_at dksX8_readKin_2 11 rfl rfl)
theorem dX8_readKin_60 : decode cX8_readKin 60 = .ok (.aload_n 0, 1) := dk_42 (dk_at dksX8_readKin_2 12 rfl rfl)
theorem dX8_readKin_61 : decode cX8_readKin 61 = .ok (.getfield 29, 3) := dk_180 0 29 (dk_at dksX8_readKin_2 13 rfl rfl)
theorem dX8_readKin_64 : decode cX8_readKin 64 = .ok (.iload_n 1, 1) := dk_27 (dk_at dksX8_readKin_2 16 rfl rfl)
theorem dX8_readKin_65 : decode cX8_readKin 65 = .ok (.dup2, 1) := dk_92 (dk_at dksX8_readKin_2 17 rfl rfl)
theorem dX8_readKin_66 : decode cX8_readKin 66 = .ok (.iaload, 1) := dk_46 (dk_at dksX8_readKin_2 18 rfl rfl)
theorem dX8_readKin_67 : decode cX8_readKin 67 = .ok (.iconst 1, 1) := dk_4 (dk_at dksX8_readKin_2 19 rfl rfl)
theorem dX8_readKin_68 : decode cX8_readKin 68 = .ok (.iload_n 3, 1) := dk_29 (dk_at dksX8_readKin_2 20 rfl rfl)
theorem dX8_readKin_69 : decode cX8_readKin 69 = .ok (.ishl, 1) := dk_120 (dk_at dksX8_readKin_2 21 rfl rfl)
theorem dX8_readKin_70 : decode cX8_readKin 70 = .ok (.ior, 1) := dk_128 (dk_at dksX8_readKin_2 22 rfl rfl)
theorem dX8_readKin_71 : decode cX8_readKin 71 = .ok (.iastore, 1) := dk_79 (dk_at dksX8_readKin_2 23 rfl rfl)
theorem dX8_readKin_72 : decode cX8_readKin 72 = .ok (.aload_n 0, 1) := dk_42 (dk_at dksX8_readKin_3 0 rfl rfl)
theorem dX8_readKin_73 : decode cX8_readKin 73 = .ok (.getfield 29, 3) := dk_180 0 29 (dk_at dksX8_readKin_3 1 rfl rfl)
theorem dX8_readKin_76 : decode cX8_readKin 76 = .ok (.iload_n 3, 1) := dk_29 (dk_at dksX8_readKin_3 4 rfl rfl)
theorem dX8_readKin_77 : decode cX8_readKin 77 = .ok (.dup2, 1) := dk_92 (dk_at dksX8_readKin_3 5 rfl rfl)
theorem dX8_readKin_78 : decode cX8_readKin 78 = .ok (.iaload, 1) := dk_46 (dk_at dksX8_readKin_3 6 rfl rfl)
theorem dX8_readKin_79 : decode cX8_readKin 79 = .ok (.iconst 1, 1) := dk_4 (dk_at dksX8_readKin_3 7 rfl rfl)
theorem dX8_readKin_80 : decode cX8_readKin 80 = .ok (.iload_n 1, 1) := dk_27 (dk_at dksX8_readKin_3 8 rfl rfl)
theorem dX8_readKin_81 : decode cX8_readKin 81 = .ok (.ishl, 1) := dk_120 (dk_at dksX8_readKin_3 9 rfl rfl)
theorem dX8_readKin_82 : decode cX8_readKin 82 = .ok (.ior, 1) := dk_128 (dk_at dksX8_readKin_3 10 rfl rfl)
theorem dX8_readKin_83 : decode cX8_readKin 83 = .ok (.iastore, 1) := dk_79 (dk_at dksX8_readKin_3 11 rfl rfl)
theorem dX8_readKin_84 : decode cX8_readKin 84 = .ok (.return_, 1) := dk_177 (dk_at dksX8_readKin_3 12 rfl rfl)
abbrev cX8_sign : ByteArray := prog_24_method_15_code
def yX8_sign : MethodName := ⟨RX8, "sign", "(I)V"⟩
def dkwX8_sign_1 : List UInt8 := [42, 182, 0, 156, 153, 0, 13, 42, 89, 180, 0, 133, 4, 96, 181, 0, 133, 177]
abbrev dktX8_sign_1 : List UInt8 := dkwX8_sign_1 ++ []
def dkwX8_sign_0 : List UInt8 := [42, 182, 0, 156, 153, 0, 20, 42, 182, 0, 139, 27, 159, 0, 12, 42, 4, 42, 180, 0, 133, 182, 0, 163]
abbrev dktX8_sign_0 : List UInt8 := dkwX8_sign_0 ++ dktX8_sign_1
theorem dksX8_sign_0 : cX8_sign.data.toList.drop 0 = dktX8_sign_0 := by decide +kernel
theorem dksX8_sign_1 : cX8_sign.data.toList.drop 24 = dktX8_sign_1 := dk_seg dksX8_sign_0 24 rfl rfl
theorem dX8_sign_0 : decode cX8_sign 0 = .ok (.aload_n 0, 1) := dk_42 (dk_at dksX8_sign_0 0 rfl rfl)
theorem dX8_sign_1 : decode cX8_sign 1 = .ok (.invokevirtual 156, 3) := dk_182 0 156 (dk_at dksX8_sign_0 1 rfl rfl)
theorem dX8_sign_4 : decode cX8_sign 4 = .ok (.ifCond .eq 20, 3) := dk_153 0 20 (dk_at dksX8_sign_0 4 rfl rfl)
theorem dX8_sign_7 : decode cX8_sign 7 = .ok (.aload_n 0, 1) := dk_42 (dk_at dksX8_sign_0 7 rfl rfl)
theorem dX8_sign_8 : decode cX8_sign 8 = .ok (.invokevirtual 139, 3) := dk_182 0 139 (dk_at dksX8_sign_0 8 rfl rfl)
theorem dX8_sign_11 : decode cX8_sign 11 = .ok (.iload_n 1, 1) := dk_27 (dk_at dksX8_sign_0 11 rfl rfl)
theorem dX8_sign_12 : decode cX8_sign 12 = .ok (.if_icmp .eq 12, 3) := dk_159 0 12 (dk_at dksX8_sign_0 12 rfl rfl)
theorem dX8_sign_15 : decode cX8_sign 15 = .ok (.aload_n 0, 1) := dk_42 (dk_at dksX8_sign_0 15 rfl rfl)
theorem dX8_sign_16 : decode cX8_sign 16 = .ok (.iconst 1, 1) := dk_4 (dk_at dksX8_sign_0 16 rfl rfl)
theorem dX8_sign_17 : decode cX8_sign 17 = .ok (.aload_n 0, 1) := dk_42 (dk_at dksX8_sign_0 17 rfl rfl)
theorem dX8_sign_18 : decode cX8_sign 18 = .ok (.getfield 133, 3) := dk_180 0 133 (dk_at dksX8_sign_0 18 rfl rfl)
theorem dX8_sign_21 : decode cX8_sign 21 = .ok (.invokevirtual 163, 3) := dk_182 0 163 (dk_at dksX8_sign_0 21 rfl rfl)
theorem dX8_sign_24 : decode cX8_sign 24 = .ok (.aload_n 0, 1) := dk_42 (dk_at dksX8_sign_1 0 rfl rfl)
theorem dX8_sign_25 : decode cX8_sign 25 = .ok (.invokevirtual 156, 3) := dk_182 0 156 (dk_at dksX8_sign_1 1 rfl rfl)
theorem dX8_sign_28 : decode cX8_sign 28 = .ok (.ifCond .eq 13, 3) := dk_153 0 13 (dk_at dksX8_sign_1 4 rfl rfl)
theorem dX8_sign_31 : decode cX8_sign 31 = .ok (.aload_n 0, 1) := dk_42 (dk_at dksX8_sign_1 7 rfl rfl)
theorem dX8_sign_32 : decode cX8_sign 32 = .ok (.dup, 1) := dk_89 (dk_at dksX8_sign_1 8 rfl rfl)
theorem dX8_sign_33 : decode cX8_sign 33 = .ok (.getfield 133, 3) := dk_180 0 133 (dk_at dksX8_sign_1 9 rfl rfl)
theorem dX8_sign_36 : decode cX8_sign 36 = .ok (.iconst 1, 1) := dk_4 (dk_at dksX8_sign_1 12 rfl rfl)
theorem dX8_sign_37 : decode cX8_sign 37 = .ok (.iadd, 1) := dk_96 (dk_at dksX8_sign_1 13 rfl rfl)
theorem dX8_sign_38 : decode cX8_sign 38 = .ok (.putfield 133, 3) := dk_181 0 133 (dk_at dksX8_sign_1 14 rfl rfl)
theorem dX8_sign_41 : decode cX8_sign 41 = .ok (.return_, 1) := dk_177 (dk_at dksX8_sign_1 17 rfl rfl)
abbrev cX8_result : ByteArray := prog_24_method_18_code
def yX8_result : MethodName := ⟨RX8, "result", "(I)I"⟩
def dkwX8_result_1 : List UInt8 := [16, 10, 100, 172]
abbrev dktX8_result_1 : List UInt8 := dkwX8_result_1 ++ []
def dkwX8_result_0 : List UInt8 := [42, 42, 180, 0, 127, 181, 0, 17, 42, 182, 0, 156, 153, 0, 7, 27, 167, 0, 10, 42, 180, 0, 130]
abbrev dktX8_result_0 : List UInt8 := dkwX8_result_0 ++ dktX8_result_1
theorem dksX8_result_0 : cX8_result.data.toList.drop 0 = dktX8_result_0 := by decide +kernel
theorem dksX8_result_1 : cX8_result.data.toList.drop 23 = dktX8_result_1 := dk_seg dksX8_result_0 23 rfl rfl
theorem dX8_result_0 : decode cX8_result 0 = .ok (.aload_n 0, 1) := dk_42 (dk_at dksX8_result_0 0 rfl rfl)
theorem dX8_result_1 : decode cX8_result 1 = .ok (.aload_n 0, 1) := dk_42 (dk_at dksX8_result_0 1 rfl rfl)
theorem dX8_result_2 : decode cX8_result 2 = .ok (.getfield 127, 3) := dk_180 0 127 (dk_at dksX8_result_0 2 rfl rfl)
theorem dX8_result_5 : decode cX8_result 5 = .ok (.putfield 17, 3) := dk_181 0 17 (dk_at dksX8_result_0 5 rfl rfl)
theorem dX8_result_8 : decode cX8_result 8 = .ok (.aload_n 0, 1) := dk_42 (dk_at dksX8_result_0 8 rfl rfl)
theorem dX8_result_9 : decode cX8_result 9 = .ok (.invokevirtual 156, 3) := dk_182 0 156 (dk_at dksX8_result_0 9 rfl rfl)
theorem dX8_result_12 : decode cX8_result 12 = .ok (.ifCond .eq 7, 3) := dk_153 0 7 (dk_at dksX8_result_0 12 rfl rfl)
theorem dX8_result_15 : decode cX8_result 15 = .ok (.iload_n 1, 1) := dk_27 (dk_at dksX8_result_0 15 rfl rfl)
theorem dX8_result_16 : decode cX8_result 16 = .ok (.goto 10, 3) := dk_167 0 10 (dk_at dksX8_result_0 16 rfl rfl)
theorem dX8_result_19 : decode cX8_result 19 = .ok (.aload_n 0, 1) := dk_42 (dk_at dksX8_result_0 19 rfl rfl)
theorem dX8_result_20 : decode cX8_result 20 = .ok (.getfield 130, 3) := dk_180 0 130 (dk_at dksX8_result_0 20 rfl rfl)
theorem dX8_result_23 : decode cX8_result 23 = .ok (.bipush 10, 2) := dk_16 10 (dk_at dksX8_result_1 0 rfl rfl)
theorem dX8_result_25 : decode cX8_result 25 = .ok (.isub, 1) := dk_100 (dk_at dksX8_result_1 2 rfl rfl)
theorem dX8_result_26 : decode cX8_result 26 = .ok (.ireturn, 1) := dk_172 (dk_at dksX8_result_1 3 rfl rfl)
abbrev cX8_law : ByteArray := prog_24_method_34_code
def yX8_law : MethodName := ⟨RX8, "law", "(I)I"⟩
def dkwX8_law_5 : List UInt8 := [42, 180, 0, 50, 42, 180, 0, 56, 42, 180, 0, 246, 182, 0, 182, 28, 172]
abbrev dktX8_law_5 : List UInt8 := dkwX8_law_5 ++ []
def dkwX8_law_4 : List UInt8 := [42, 180, 0, 246, 181, 0, 186, 42, 42, 180, 0, 47, 42, 180, 0, 53, 42, 180, 0, 246, 182, 0, 182, 42]
abbrev dktX8_law_4 : List UInt8 := dkwX8_law_4 ++ dktX8_law_5
def dkwX8_law_3 : List UInt8 := [42, 180, 0, 133, 182, 0, 163, 42, 4, 182, 0, 242, 61, 42, 180, 0, 127, 2, 159, 0, 5, 28, 172, 42]
abbrev dktX8_law_3 : List UInt8 := dkwX8_law_3 ++ dktX8_law_4
def dkwX8_law_2 : List UInt8 := [3, 181, 0, 246, 42, 182, 1, 5, 42, 182, 0, 156, 153, 0, 19, 42, 182, 0, 224, 153, 0, 12, 42, 4]
abbrev dktX8_law_2 : List UInt8 := dkwX8_law_2 ++ dktX8_law_3
def dkwX8_law_1 : List UInt8 := [163, 0, 7, 4, 167, 0, 4, 3, 4, 4, 182, 0, 216, 154, 0, 5, 3, 172, 42, 27, 182, 0, 220, 42]
abbrev dktX8_law_1 : List UInt8 := dkwX8_law_1 ++ dktX8_law_2
def dkwX8_law_0 : List UInt8 := [42, 3, 181, 0, 3, 42, 27, 155, 0, 22, 27, 42, 180, 0, 124, 163, 0, 14, 27, 17, 0, 150]
abbrev dktX8_law_0 : List UInt8 := dkwX8_law_0 ++ dktX8_law_1
theorem dksX8_law_0 : cX8_law.data.toList.drop 0 = dktX8_law_0 := by decide +kernel
theorem dksX8_law_1 : cX8_law.data.toList.drop 22 = dktX8_law_1 := dk_seg dksX8_law_0 22 rfl rfl
theorem dksX8_law_2 : cX8_law.data.toList.drop 46 = dktX8_law_2 := dk_seg dksX8_law_1 24 rfl rfl
theorem dksX8_law_3 : cX8_law.data.toList.drop 70 = dktX8_law_3 := dk_seg dksX8_law_2 24 rfl rfl
theorem dksX8_law_4 : cX8_law.data.toList.drop 94 = dktX8_law_4 := dk_seg dksX8_law_3 24 rfl rfl
theorem dksX8_law_5 : cX8_law.data.toList.drop 118 = dktX8_law_5 := dk_seg dksX8_law_4 24 rfl rfl
theorem dX8_law_0 : decode cX8_law 0 = .ok (.aload_n 0, 1) := dk_42 (dk_at dksX8_law_0 0 rfl rfl)
theorem dX8_law_1 : decode cX8_law 1 = .ok (.iconst 0, 1) := dk_3 (dk_at dksX8_law_0 1 rfl rfl)
theorem dX8_law_2 : decode cX8_law 2 = .ok (.putfield 3, 3) := dk_181 0 3 (dk_at dksX8_law_0 2 rfl rfl)
theorem dX8_law_5 : decode cX8_law 5 = .ok (.aload_n 0, 1) := dk_42 (dk_at dksX8_law_0 5 rfl rfl)
theorem dX8_law_6 : decode cX8_law 6 = .ok (.iload_n 1, 1) := dk_27 (dk_at dksX8_law_0 6 rfl rfl)
theorem dX8_law_7 : decode cX8_law 7 = .ok (.ifCond .lt 22, 3) := dk_155 0 22 (dk_at dksX8_law_0 7 rfl rfl)
theorem dX8_law_10 : decode cX8_law 10 = .ok (.iload_n 1, 1) := dk_27 (dk_at dksX8_law_0 10 rfl rfl)
theorem dX8_law_11 : decode cX8_law 11 = .ok (.aload_n 0, 1) := dk_42 (dk_at dksX8_law_0 11 rfl rfl)
theorem dX8_law_12 : decode cX8_law 12 = .ok (.getfield 124, 3) := dk_180 0 124 (dk_at dksX8_law_0 12 rfl rfl)
theorem dX8_law_15 : decode cX8_law 15 = .ok (.if_icmp .gt 14, 3) := dk_163 0 14 (dk_at dksX8_law_0 15 rfl rfl)
theorem dX8_law_18 : decode cX8_law 18 = .ok (.iload_n 1, 1) := dk_27 (dk_at dksX8_law_0 18 rfl rfl)
theorem dX8_law_19 : decode cX8_law 19 = .ok (.sipush 150, 3) := dk_17 0 150 (dk_at dksX8_law_0 19 rfl rfl)
theorem dX8_law_22 : decode cX8_law 22 = .ok (.if_icmp .gt 7, 3) := dk_163 0 7 (dk_at dksX8_law_1 0 rfl rfl)
theorem dX8_law_25 : decode cX8_law 25 = .ok (.iconst 1, 1) := dk_4 (dk_at dksX8_law_1 3 rfl rfl)
theorem dX8_law_26 : decode cX8_law 26 = .ok (.goto 4, 3) := dk_167 0 4 (dk_at dksX8_law_1 4 rfl rfl)
theorem dX8_law_29 : decode cX8_law 29 = .ok (.iconst 0, 1) := dk_3 (dk_at dksX8_law_1 7 rfl rfl)
theorem dX8_law_30 : decode cX8_law 30 = .ok (.iconst 1, 1) := dk_4 (dk_at dksX8_law_1 8 rfl rfl)
theorem dX8_law_31 : decode cX8_law 31 = .ok (.iconst 1, 1) := dk_4 (dk_at dksX8_law_1 9 rfl rfl)
theorem dX8_law_32 : decode cX8_law 32 = .ok (.invokevirtual 216, 3) := dk_182 0 216 (dk_at dksX8_law_1 10 rfl rfl)
theorem dX8_law_35 : decode cX8_law 35 = .ok (.ifCond .ne 5, 3) := dk_154 0 5 (dk_at dksX8_law_1 13 rfl rfl)
theorem dX8_law_38 : decode cX8_law 38 = .ok (.iconst 0, 1) := dk_3 (dk_at dksX8_law_1 16 rfl rfl)
theorem dX8_law_39 : decode cX8_law 39 = .ok (.ireturn, 1) := dk_172 (dk_at dksX8_law_1 17 rfl rfl)
theorem dX8_law_40 : decode cX8_law 40 = .ok (.aload_n 0, 1) := dk_42 (dk_at dksX8_law_1 18 rfl rfl)
theorem dX8_law_41 : decode cX8_law 41 = .ok (.iload_n 1, 1) := dk_27 (dk_at dksX8_law_1 19 rfl rfl)
theorem dX8_law_42 : decode cX8_law 42 = .ok (.invokevirtual 220, 3) := dk_182 0 220 (dk_at dksX8_law_1 20 rfl rfl)
theorem dX8_law_45 : decode cX8_law 45 = .ok (.aload_n 0, 1) := dk_42 (dk_at dksX8_law_1 23 rfl rfl)
theorem dX8_law_46 : decode cX8_law 46 = .ok (.iconst 0, 1) := dk_3 (dk_at dksX8_law_2 0 rfl rfl)
theorem dX8_law_47 : decode cX8_law 47 = .ok (.putfield 246, 3) := dk_181 0 246 (dk_at dksX8_law_2 1 rfl rfl)
theorem dX8_law_50 : decode cX8_law 50 = .ok (.aload_n 0, 1) := dk_42 (dk_at dksX8_law_2 4 rfl rfl)
theorem dX8_law_51 : decode cX8_law 51 = .ok (.invokevirtual 261, 3) := dk_182 1 5 (dk_at dksX8_law_2 5 rfl rfl)
theorem dX8_law_54 : decode cX8_law 54 = .ok (.aload_n 0, 1) := dk_42 (dk_at dksX8_law_2 8 rfl rfl)
theorem dX8_law_55 : decode cX8_law 55 = .ok (.invokevirtual 156, 3) := dk_182 0 156 (dk_at dksX8_law_2 9 rfl rfl)
theorem dX8_law_58 : decode cX8_law 58 = .ok (.ifCond .eq 19, 3) := dk_153 0 19 (dk_at dksX8_law_2 12 rfl rfl)
theorem dX8_law_61 : decode cX8_law 61 = .ok (.aload_n 0, 1) := dk_42 (dk_at dksX8_law_2 15 rfl rfl)
theorem dX8_law_62 : decode cX8_law 62 = .ok (.invokevirtual 224, 3) := dk_182 0 224 (dk_at dksX8_law_2 16 rfl rfl)
theorem dX8_law_65 : decode cX8_law 65 = .ok (.ifCond .eq 12, 3) := dk_153 0 12 (dk_at dksX8_law_2 19 rfl rfl)
theorem dX8_law_68 : decode cX8_law 68 = .ok (.aload_n 0, 1) := dk_42 (dk_at dksX8_law_2 22 rfl rfl)
theorem dX8_law_69 : decode cX8_law 69 = .ok (.iconst 1, 1) := dk_4 (dk_at dksX8_law_2 23 rfl rfl)
theorem dX8_law_70 : decode cX8_law 70 = .ok (.aload_n 0, 1) := dk_42 (dk_at dksX8_law_3 0 rfl rfl)
theorem dX8_law_71 : decode cX8_law 71 = .ok (.getfield 133, 3) := dk_180 0 133 (dk_at dksX8_law_3 1 rfl rfl)
theorem dX8_law_74 : decode cX8_law 74 = .ok (.invokevirtual 163, 3) := dk_182 0 163 (dk_at dksX8_law_3 4 rfl rfl)
theorem dX8_law_77 : decode cX8_law 77 = .ok (.aload_n 0, 1) := dk_42 (dk_at dksX8_law_3 7 rfl rfl)
theorem dX8_law_78 : decode cX8_law 78 = .ok (.iconst 1, 1) := dk_4 (dk_at dksX8_law_3 8 rfl rfl)
theorem dX8_law_79 : decode cX8_law 79 = .ok (.invokevirtual 242, 3) := dk_182 0 242 (dk_at dksX8_law_3 9 rfl rfl)
theorem dX8_law_82 : decode cX8_law 82 = .ok (.istore_n 2, 1) := dk_61 (dk_at dksX8_law_3 12 rfl rfl)
theorem dX8_law_83 : decode cX8_law 83 = .ok (.aload_n 0, 1) := dk_42 (dk_at dksX8_law_3 13 rfl rfl)
theorem dX8_law_84 : decode cX8_law 84 = .ok (.getfield 127, 3) := dk_180 0 127 (dk_at dksX8_law_3 14 rfl rfl)
theorem dX8_law_87 : decode cX8_law 87 = .ok (.iconst (-1), 1) := dk_2 (dk_at dksX8_law_3 17 rfl rfl)
theorem dX8_law_88 : decode cX8_law 88 = .ok (.if_icmp .eq 5, 3) := dk_159 0 5 (dk_at dksX8_law_3 18 rfl rfl)
theorem dX8_law_91 : decode cX8_law 91 = .ok (.iload_n 2, 1) := dk_28 (dk_at dksX8_law_3 21 rfl rfl)
theorem dX8_law_92 : decode cX8_law 92 = .ok (.ireturn, 1) := dk_172 (dk_at dksX8_law_3 22 rfl rfl)
theorem dX8_law_93 : decode cX8_law 93 = .ok (.aload_n 0, 1) := dk_42 (dk_at dksX8_law_3 23 rfl rfl)
theorem dX8_law_94 : decode cX8_law 94 = .ok (.aload_n 0, 1) := dk_42 (dk_at dksX8_law_4 0 rfl rfl)
theorem dX8_law_95 : decode cX8_law 95 = .ok (.getfield 246, 3) := dk_180 0 246 (dk_at dksX8_law_4 1 rfl rfl)
theorem dX8_law_98 : decode cX8_law 98 = .ok (.putfield 186, 3) := dk_181 0 186 (dk_at dksX8_law_4 4 rfl rfl)
theorem dX8_law_101 : decode cX8_law 101 = .ok (.aload_n 0, 1) := dk_42 (dk_at dksX8_law_4 7 rfl rfl)
theorem dX8_law_102 : decode cX8_law 102 = .ok (.aload_n 0, 1) := dk_42 (dk_at dksX8_law_4 8 rfl rfl)
theorem dX8_law_103 : decode cX8_law 103 = .ok (.getfield 47, 3) := dk_180 0 47 (dk_at dksX8_law_4 9 rfl rfl)
theorem dX8_law_106 : decode cX8_law 106 = .ok (.aload_n 0, 1) := dk_42 (dk_at dksX8_law_4 12 rfl rfl)
theorem dX8_law_107 : decode cX8_law 107 = .ok (.getfield 53, 3) := dk_180 0 53 (dk_at dksX8_law_4 13 rfl rfl)
theorem dX8_law_110 : decode cX8_law 110 = .ok (.aload_n 0, 1) := dk_42 (dk_at dksX8_law_4 16 rfl rfl)
theorem dX8_law_111 : decode cX8_law 111 = .ok (.getfield 246, 3) := dk_180 0 246 (dk_at dksX8_law_4 17 rfl rfl)
theorem dX8_law_114 : decode cX8_law 114 = .ok (.invokevirtual 182, 3) := dk_182 0 182 (dk_at dksX8_law_4 20 rfl rfl)
theorem dX8_law_117 : decode cX8_law 117 = .ok (.aload_n 0, 1) := dk_42 (dk_at dksX8_law_4 23 rfl rfl)
theorem dX8_law_118 : decode cX8_law 118 = .ok (.aload_n 0, 1) := dk_42 (dk_at dksX8_law_5 0 rfl rfl)
theorem dX8_law_119 : decode cX8_law 119 = .ok (.getfield 50, 3) := dk_180 0 50 (dk_at dksX8_law_5 1 rfl rfl)
theorem dX8_law_122 : decode cX8_law 122 = .ok (.aload_n 0, 1) := dk_42 (dk_at dksX8_law_5 4 rfl rfl)
theorem dX8_law_123 : decode cX8_law 123 = .ok (.getfield 56, 3) := dk_180 0 56 (dk_at dksX8_law_5 5 rfl rfl)
theorem dX8_law_126 : decode cX8_law 126 = .ok (.aload_n 0, 1) := dk_42 (dk_at dksX8_law_5 8 rfl rfl)
theorem dX8_law_127 : decode cX8_law 127 = .ok (.getfield 246, 3) := dk_180 0 246 (dk_at dksX8_law_5 9 rfl rfl)
theorem dX8_law_130 : decode cX8_law 130 = .ok (.invokevirtual 182, 3) := dk_182 0 182 (dk_at dksX8_law_5 12 rfl rfl)
theorem dX8_law_133 : decode cX8_law 133 = .ok (.iload_n 2, 1) := dk_28 (dk_at dksX8_law_5 15 rfl rfl)
theorem dX8_law_134 : decode cX8_law 134 = .ok (.ireturn, 1) := dk_172 (dk_at dksX8_law_5 16 rfl rfl)
abbrev cX8_readSum : ByteArray := prog_24_method_29_code
def yX8_readSum : MethodName := ⟨RX8, "readSum", "()V"⟩
def dkwX8_readSum_2 : List UInt8 := [180, 0, 133, 4, 96, 181, 0, 133, 42, 182, 0, 249, 42, 27, 3, 182, 0, 252, 167, 255, 196, 177]
abbrev dktX8_readSum_2 : List UInt8 := dkwX8_readSum_2 ++ []
def dkwX8_readSum_1 : List UInt8 := [16, 45, 160, 0, 41, 42, 182, 0, 139, 16, 43, 160, 0, 7, 5, 167, 0, 4, 6, 60, 42, 89]
abbrev dktX8_readSum_1 : List UInt8 := dkwX8_readSum_1 ++ dktX8_readSum_2
def dkwX8_readSum_0 : List UInt8 := [42, 182, 0, 249, 42, 182, 0, 156, 153, 0, 59, 42, 182, 0, 139, 16, 43, 159, 0, 12, 42, 182, 0, 139]
abbrev dktX8_readSum_0 : List UInt8 := dkwX8_readSum_0 ++ dktX8_readSum_1
theorem dksX8_readSum_0 : cX8_readSum.data.toList.drop 0 = dktX8_readSum_0 := by decide +kernel
theorem dksX8_readSum_1 : cX8_readSum.data.toList.drop 24 = dktX8_readSum_1 := dk_seg dksX8_readSum_0 24 rfl rfl
theorem dksX8_readSum_2 : cX8_readSum.data.toList.drop 46 = dktX8_readSum_2 := dk_seg dksX8_readSum_1 22 rfl rfl
theorem dX8_readSum_0 : decode cX8_readSum 0 = .ok (.aload_n 0, 1) := dk_42 (dk_at dksX8_readSum_0 0 rfl rfl)
theorem dX8_readSum_1 : decode cX8_readSum 1 = .ok (.invokevirtual 249, 3) := dk_182 0 249 (dk_at dksX8_readSum_0 1 rfl rfl)
theorem dX8_readSum_4 : decode cX8_readSum 4 = .ok (.aload_n 0, 1) := dk_42 (dk_at dksX8_readSum_0 4 rfl rfl)
theorem dX8_readSum_5 : decode cX8_readSum 5 = .ok (.invokevirtual 156, 3) := dk_182 0 156 (dk_at dksX8_readSum_0 5 rfl rfl)
theorem dX8_readSum_8 : decode cX8_readSum 8 = .ok (.ifCond .eq 59, 3) := dk_153 0 59 (dk_at dksX8_readSum_0 8 rfl rfl)
theorem dX8_readSum_11 : decode cX8_readSum 11 = .ok (.aload_n 0, 1) := dk_42 (dk_at dksX8_readSum_0 11 rfl rfl)
theorem dX8_readSum_12 : decode cX8_readSum 12 = .ok (.invokevirtual 139, 3) := dk_182 0 139 (dk_at dksX8_readSum_0 12 rfl rfl)
theorem dX8_readSum_15 : decode cX8_readSum 15 = .ok (.bipush 43, 2) := dk_16 43 (dk_at dksX8_readSum_0 15 rfl rfl)
theorem dX8_readSum_17 : decode cX8_readSum 17 = .ok (.if_icmp .eq 12, 3) := dk_159 0 12 (dk_at dksX8_readSum_0 17 rfl rfl)
theorem dX8_readSum_20 : decode cX8_readSum 20 = .ok (.aload_n 0, 1) := dk_42 (dk_at dksX8_readSum_0 20 rfl rfl)
theorem dX8_readSum_21 : decode cX8_readSum 21 = .ok (.invokevirtual 139, 3) := dk_182 0 139 (dk_at dksX8_readSum_0 21 rfl rfl)
theorem dX8_readSum_24 : decode cX8_readSum 24 = .ok (.bipush 45, 2) := dk_16 45 (dk_at dksX8_readSum_1 0 rfl rfl)
theorem dX8_readSum_26 : decode cX8_readSum 26 = .ok (.if_icmp .ne 41, 3) := dk_160 0 41 (dk_at dksX8_readSum_1 2 rfl rfl)
theorem dX8_readSum_29 : decode cX8_readSum 29 = .ok (.aload_n 0, 1) := dk_42 (dk_at dksX8_readSum_1 5 rfl rfl)
theorem dX8_readSum_30 : decode cX8_readSum 30 = .ok (.invokevirtual 139, 3) := dk_182 0 139 (dk_at dksX8_readSum_1 6 rfl rfl)
theorem dX8_readSum_33 : decode cX8_readSum 33 = .ok (.bipush 43, 2) := dk_16 43 (dk_at dksX8_readSum_1 9 rfl rfl)
theorem dX8_readSum_35 : decode cX8_readSum 35 = .ok (.if_icmp .ne 7, 3) := dk_160 0 7 (dk_at dksX8_readSum_1 11 rfl rfl)
theorem dX8_readSum_38 : decode cX8_readSum 38 = .ok (.iconst 2, 1) := dk_5 (dk_at dksX8_readSum_1 14 rfl rfl)
theorem dX8_readSum_39 : decode cX8_readSum 39 = .ok (.goto 4, 3) := dk_167 0 4 (dk_at dksX8_readSum_1 15 rfl rfl)
theorem dX8_readSum_42 : decode cX8_readSum 42 = .ok (.iconst 3, 1) := dk_6 (dk_at dksX8_readSum_1 18 rfl rfl)
theorem dX8_readSum_43 : decode cX8_readSum 43 = .ok (.istore_n 1, 1) := dk_60 (dk_at dksX8_readSum_1 19 rfl rfl)
theorem dX8_readSum_44 : decode cX8_readSum 44 = .ok (.aload_n 0, 1) := dk_42 (dk_at dksX8_readSum_1 20 rfl rfl)
theorem dX8_readSum_45 : decode cX8_readSum 45 = .ok (.dup, 1) := dk_89 (dk_at dksX8_readSum_1 21 rfl rfl)
theorem dX8_readSum_46 : decode cX8_readSum 46 = .ok (.getfield 133, 3) := dk_180 0 133 (dk_at dksX8_readSum_2 0 rfl rfl)
theorem dX8_readSum_49 : decode cX8_readSum 49 = .ok (.iconst 1, 1) := dk_4 (dk_at dksX8_readSum_2 3 rfl rfl)
theorem dX8_readSum_50 : decode cX8_readSum 50 = .ok (.iadd, 1) := dk_96 (dk_at dksX8_readSum_2 4 rfl rfl)
theorem dX8_readSum_51 : decode cX8_readSum 51 = .ok (.putfield 133, 3) := dk_181 0 133 (dk_at dksX8_readSum_2 5 rfl rfl)
theorem dX8_readSum_54 : decode cX8_readSum 54 = .ok (.aload_n 0, 1) := dk_42 (dk_at dksX8_readSum_2 8 rfl rfl)
theorem dX8_readSum_55 : decode cX8_readSum 55 = .ok (.invokevirtual 249, 3) := dk_182 0 249 (dk_at dksX8_readSum_2 9 rfl rfl)
theorem dX8_readSum_58 : decode cX8_readSum 58 = .ok (.aload_n 0, 1) := dk_42 (dk_at dksX8_readSum_2 12 rfl rfl)
theorem dX8_readSum_59 : decode cX8_readSum 59 = .ok (.iload_n 1, 1) := dk_27 (dk_at dksX8_readSum_2 13 rfl rfl)
theorem dX8_readSum_60 : decode cX8_readSum 60 = .ok (.iconst 0, 1) := dk_3 (dk_at dksX8_readSum_2 14 rfl rfl)
theorem dX8_readSum_61 : decode cX8_readSum 61 = .ok (.invokevirtual 252, 3) := dk_182 0 252 (dk_at dksX8_readSum_2 15 rfl rfl)
theorem dX8_readSum_64 : decode cX8_readSum 64 = .ok (.goto (-60), 3) := dk_167 255 196 (dk_at dksX8_readSum_2 18 rfl rfl)
theorem dX8_readSum_67 : decode cX8_readSum 67 = .ok (.return_, 1) := dk_177 (dk_at dksX8_readSum_2 21 rfl rfl)
abbrev cX8_readProduct : ByteArray := prog_24_method_30_code
def yX8_readProduct : MethodName := ⟨RX8, "readProduct", "()V"⟩
def dkwX8_readProduct_3 : List UInt8 := [4, 96, 181, 0, 133, 42, 182, 0, 255, 42, 27, 3, 182, 0, 252, 167, 255, 173, 177]
abbrev dktX8_readProduct_3 : List UInt8 := dkwX8_readProduct_3 ++ []
def dkwX8_readProduct_2 : List UInt8 := [167, 0, 18, 42, 182, 0, 139, 16, 47, 160, 0, 7, 8, 167, 0, 5, 16, 8, 60, 42, 89, 180, 0, 133]
abbrev dktX8_readProduct_2 : List UInt8 := dkwX8_readProduct_2 ++ dktX8_readProduct_3
def dkwX8_readProduct_1 : List UInt8 := [16, 47, 159, 0, 12, 42, 182, 0, 139, 16, 37, 160, 0, 55, 42, 182, 0, 139, 16, 42, 160, 0, 7, 7]
abbrev dktX8_readProduct_1 : List UInt8 := dkwX8_readProduct_1 ++ dktX8_readProduct_2
def dkwX8_readProduct_0 : List UInt8 := [42, 182, 0, 255, 42, 182, 0, 156, 153, 0, 82, 42, 182, 0, 139, 16, 42, 159, 0, 21, 42, 182, 0, 139]
abbrev dktX8_readProduct_0 : List UInt8 := dkwX8_readProduct_0 ++ dktX8_readProduct_1
theorem dksX8_readProduct_0 : cX8_readProduct.data.toList.drop 0 = dktX8_readProduct_0 := by decide +kernel
theorem dksX8_readProduct_1 : cX8_readProduct.data.toList.drop 24 = dktX8_readProduct_1 := dk_seg dksX8_readProduct_0 24 rfl rfl
theorem dksX8_readProduct_2 : cX8_readProduct.data.toList.drop 48 = dktX8_readProduct_2 := dk_seg dksX8_readProduct_1 24 rfl rfl
theorem dksX8_readProduct_3 : cX8_readProduct.data.toList.drop 72 = dktX8_readProduct_3 := dk_seg dksX8_readProduct_2 24 rfl rfl
theorem dX8_readProduct_0 : decode cX8_readProduct 0 = .ok (.aload_n 0, 1) := dk_42 (dk_at dksX8_readProduct_0 0 rfl rfl)
theorem dX8_readProduct_1 : decode cX8_readProduct 1 = .ok (.invokevirtual 255, 3) := dk_182 0 255 (dk_at dksX8_readProduct_0 1 rfl rfl)
theorem dX8_readProduct_4 : decode cX8_readProduct 4 = .ok (.aload_n 0, 1) := dk_42 (dk_at dksX8_readProduct_0 4 rfl rfl)
theorem dX8_readProduct_5 : decode cX8_readProduct 5 = .ok (.invokevirtual 156, 3) := dk_182 0 156 (dk_at dksX8_readProduct_0 5 rfl rfl)
theorem dX8_readProduct_8 : decode cX8_readProduct 8 = .ok (.ifCond .eq 82, 3) := dk_153 0 82 (dk_at dksX8_readProduct_0 8 rfl rfl)
theorem dX8_readProduct_11 : decode cX8_readProduct 11 = .ok (.aload_n 0, 1) := dk_42 (dk_at dksX8_readProduct_0 11 rfl rfl)
theorem dX8_readProduct_12 : decode cX8_readProduct 12 = .ok (.invokevirtual 139, 3) := dk_182 0 139 (dk_at dksX8_readProduct_0 12 rfl rfl)
theorem dX8_readProduct_15 : decode cX8_readProduct 15 = .ok (.bipush 42, 2) := dk_16 42 (dk_at dksX8_readProduct_0 15 rfl rfl)
theorem dX8_readProduct_17 : decode cX8_readProduct 17 = .ok (.if_icmp .eq 21, 3) := dk_159 0 21 (dk_at dksX8_readProduct_0 17 rfl rfl)
theorem dX8_readProduct_20 : decode cX8_readProduct 20 = .ok (.aload_n 0, 1) := dk_42 (dk_at dksX8_readProduct_0 20 rfl rfl)
theorem dX8_readProduct_21 : decode cX8_readProduct 21 = .ok (.invokevirtual 139, 3) := dk_182 0 139 (dk_at dksX8_readProduct_0 21 rfl rfl)
theorem dX8_readProduct_24 : decode cX8_readProduct 24 = .ok (.bipush 47, 2) := dk_16 47 (dk_at dksX8_readProduct_1 0 rfl rfl)
theorem dX8_readProduct_26 : decode cX8_readProduct 26 = .ok (.if_icmp .eq 12, 3) := dk_159 0 12 (dk_at dksX8_readProduct_1 2 rfl rfl)
theorem dX8_readProduct_29 : decode cX8_readProduct 29 = .ok (.aload_n 0, 1) := dk_42 (dk_at dksX8_readProduct_1 5 rfl rfl)
theorem dX8_readProduct_30 : decode cX8_readProduct 30 = .ok (.invokevirtual 139, 3) := dk_182 0 139 (dk_at dksX8_readProduct_1 6 rfl rfl)
theorem dX8_readProduct_33 : decode cX8_readProduct 33 = .ok (.bipush 37, 2) := dk_16 37 (dk_at dksX8_readProduct_1 9 rfl rfl)
theorem dX8_readProduct_35 : decode cX8_readProduct 35 = .ok (.if_icmp .ne 55, 3) := dk_160 0 55 (dk_at dksX8_readProduct_1 11 rfl rfl)
theorem dX8_readProduct_38 : decode cX8_readProduct 38 = .ok (.aload_n 0, 1) := dk_42 (dk_at dksX8_readProduct_1 14 rfl rfl)
theorem dX8_readProduct_39 : decode cX8_readProduct 39 = .ok (.invokevirtual 139, 3) := dk_182 0 139 (dk_at dksX8_readProduct_1 15 rfl rfl)
theorem dX8_readProduct_42 : decode cX8_readProduct 42 = .ok (.bipush 42, 2) := dk_16 42 (dk_at dksX8_readProduct_1 18 rfl rfl)
theorem dX8_readProduct_44 : decode cX8_readProduct 44 = .ok (.if_icmp .ne 7, 3) := dk_160 0 7 (dk_at dksX8_readProduct_1 20 rfl rfl)
theorem dX8_readProduct_47 : decode cX8_readProduct 47 = .ok (.iconst 4, 1) := dk_7 (dk_at dksX8_readProduct_1 23 rfl rfl)
theorem dX8_readProduct_48 : decode cX8_readProduct 48 = .ok (.goto 18, 3) := dk_167 0 18 (dk_at dksX8_readProduct_2 0 rfl rfl)
theorem dX8_readProduct_51 : decode cX8_readProduct 51 = .ok (.aload_n 0, 1) := dk_42 (dk_at dksX8_readProduct_2 3 rfl rfl)
theorem dX8_readProduct_52 : decode cX8_readProduct 52 = .ok (.invokevirtual 139, 3) := dk_182 0 139 (dk_at dksX8_readProduct_2 4 rfl rfl)
theorem dX8_readProduct_55 : decode cX8_readProduct 55 = .ok (.bipush 47, 2) := dk_16 47 (dk_at dksX8_readProduct_2 7 rfl rfl)
theorem dX8_readProduct_57 : decode cX8_readProduct 57 = .ok (.if_icmp .ne 7, 3) := dk_160 0 7 (dk_at dksX8_readProduct_2 9 rfl rfl)
theorem dX8_readProduct_60 : decode cX8_readProduct 60 = .ok (.iconst 5, 1) := dk_8 (dk_at dksX8_readProduct_2 12 rfl rfl)
theorem dX8_readProduct_61 : decode cX8_readProduct 61 = .ok (.goto 5, 3) := dk_167 0 5 (dk_at dksX8_readProduct_2 13 rfl rfl)
theorem dX8_readProduct_64 : decode cX8_readProduct 64 = .ok (.bipush 8, 2) := dk_16 8 (dk_at dksX8_readProduct_2 16 rfl rfl)
theorem dX8_readProduct_66 : decode cX8_readProduct 66 = .ok (.istore_n 1, 1) := dk_60 (dk_at dksX8_readProduct_2 18 rfl rfl)
theorem dX8_readProduct_67 : decode cX8_readProduct 67 = .ok (.aload_n 0, 1) := dk_42 (dk_at dksX8_readProduct_2 19 rfl rfl)
theorem dX8_readProduct_68 : decode cX8_readProduct 68 = .ok (.dup, 1) := dk_89 (dk_at dksX8_readProduct_2 20 rfl rfl)
theorem dX8_readProduct_69 : decode cX8_readProduct 69 = .ok (.getfield 133, 3) := dk_180 0 133 (dk_at dksX8_readProduct_2 21 rfl rfl)
theorem dX8_readProduct_72 : decode cX8_readProduct 72 = .ok (.iconst 1, 1) := dk_4 (dk_at dksX8_readProduct_3 0 rfl rfl)
theorem dX8_readProduct_73 : decode cX8_readProduct 73 = .ok (.iadd, 1) := dk_96 (dk_at dksX8_readProduct_3 1 rfl rfl)
theorem dX8_readProduct_74 : decode cX8_readProduct 74 = .ok (.putfield 133, 3) := dk_181 0 133 (dk_at dksX8_readProduct_3 2 rfl rfl)
theorem dX8_readProduct_77 : decode cX8_readProduct 77 = .ok (.aload_n 0, 1) := dk_42 (dk_at dksX8_readProduct_3 5 rfl rfl)
theorem dX8_readProduct_78 : decode cX8_readProduct 78 = .ok (.invokevirtual 255, 3) := dk_182 0 255 (dk_at dksX8_readProduct_3 6 rfl rfl)
theorem dX8_readProduct_81 : decode cX8_readProduct 81 = .ok (.aload_n 0, 1) := dk_42 (dk_at dksX8_readProduct_3 9 rfl rfl)
theorem dX8_readProduct_82 : decode cX8_readProduct 82 = .ok (.iload_n 1, 1) := dk_27 (dk_at dksX8_readProduct_3 10 rfl rfl)
theorem dX8_readProduct_83 : decode cX8_readProduct 83 = .ok (.iconst 0, 1) := dk_3 (dk_at dksX8_readProduct_3 11 rfl rfl)
theorem dX8_readProduct_84 : decode cX8_readProduct 84 = .ok (.invokevirtual 252, 3) := dk_182 0 252 (dk_at dksX8_readProduct_3 12 rfl rfl)
theorem dX8_readProduct_87 : decode cX8_readProduct 87 = .ok (.goto (-83), 3) := dk_167 255 173 (dk_at dksX8_readProduct_3 15 rfl rfl)
theorem dX8_readProduct_90 : decode cX8_readProduct 90 = .ok (.return_, 1) := dk_177 (dk_at dksX8_readProduct_3 18 rfl rfl)
abbrev cX8_readUnit : ByteArray := prog_24_method_33_code
def yX8_readUnit : MethodName := ⟨RX8, "readUnit", "()V"⟩
def dkwX8_readUnit_6 : List UInt8 := [182, 0, 156, 154, 0, 4, 177, 42, 182, 0, 233, 42, 4, 27, 182, 0, 252, 177]
abbrev dktX8_readUnit_6 : List UInt8 := dkwX8_readUnit_6 ++ []
def dkwX8_readUnit_5 : List UInt8 := [167, 0, 40, 42, 182, 1, 25, 60, 27, 2, 160, 0, 12, 42, 4, 42, 180, 0, 133, 182, 0, 163, 42]
abbrev dktX8_readUnit_5 : List UInt8 := dkwX8_readUnit_5 ++ dktX8_readUnit_6
def dkwX8_readUnit_4 : List UInt8 := [167, 0, 63, 42, 182, 0, 227, 19, 1, 23, 184, 0, 206, 160, 0, 13, 42, 7, 16, 7, 182, 1, 20]
abbrev dktX8_readUnit_4 : List UInt8 := dkwX8_readUnit_4 ++ dktX8_readUnit_5
def dkwX8_readUnit_3 : List UInt8 := [167, 0, 86, 42, 182, 0, 227, 19, 1, 18, 184, 0, 206, 160, 0, 13, 42, 8, 16, 6, 182, 1, 20]
abbrev dktX8_readUnit_3 : List UInt8 := dkwX8_readUnit_3 ++ dktX8_readUnit_4
def dkwX8_readUnit_2 : List UInt8 := [182, 0, 139, 184, 0, 160, 153, 0, 19, 42, 3, 42, 3, 17, 3, 231, 182, 0, 201, 182, 0, 252]
abbrev dktX8_readUnit_2 : List UInt8 := dkwX8_readUnit_2 ++ dktX8_readUnit_3
def dkwX8_readUnit_1 : List UInt8 := [182, 1, 5, 42, 16, 41, 182, 0, 239, 42, 89, 180, 0, 167, 4, 100, 181, 0, 167, 167, 0, 112, 42]
abbrev dktX8_readUnit_1 : List UInt8 := dkwX8_readUnit_1 ++ dktX8_readUnit_2
def dkwX8_readUnit_0 : List UInt8 := [42, 182, 0, 156, 154, 0, 4, 177, 42, 182, 0, 139, 16, 40, 160, 0, 31, 42, 4, 182, 1, 2, 42]
abbrev dktX8_readUnit_0 : List UInt8 := dkwX8_readUnit_0 ++ dktX8_readUnit_1
theorem dksX8_readUnit_0 : cX8_readUnit.data.toList.drop 0 = dktX8_readUnit_0 := by decide +kernel
theorem dksX8_readUnit_1 : cX8_readUnit.data.toList.drop 23 = dktX8_readUnit_1 := dk_seg dksX8_readUnit_0 23 rfl rfl
theorem dksX8_readUnit_2 : cX8_readUnit.data.toList.drop 46 = dktX8_readUnit_2 := dk_seg dksX8_readUnit_1 23 rfl rfl
theorem dksX8_readUnit_3 : cX8_readUnit.data.toList.drop 68 = dktX8_readUnit_3 := dk_seg dksX8_readUnit_2 22 rfl rfl
theorem dksX8_readUnit_4 : cX8_readUnit.data.toList.drop 91 = dktX8_readUnit_4 := dk_seg dksX8_readUnit_3 23 rfl rfl
theorem dksX8_readUnit_5 : cX8_readUnit.data.toList.drop 114 = dktX8_readUnit_5 := dk_seg dksX8_readUnit_4 23 rfl rfl
theorem dksX8_readUnit_6 : cX8_readUnit.data.toList.drop 137 = dktX8_readUnit_6 := dk_seg dksX8_readUnit_5 23 rfl rfl
theorem dX8_readUnit_0 : decode cX8_readUnit 0 = .ok (.aload_n 0, 1) := dk_42 (dk_at dksX8_readUnit_0 0 rfl rfl)
theorem dX8_readUnit_1 : decode cX8_readUnit 1 = .ok (.invokevirtual 156, 3) := dk_182 0 156 (dk_at dksX8_readUnit_0 1 rfl rfl)
theorem dX8_readUnit_4 : decode cX8_readUnit 4 = .ok (.ifCond .ne 4, 3) := dk_154 0 4 (dk_at dksX8_readUnit_0 4 rfl rfl)
theorem dX8_readUnit_7 : decode cX8_readUnit 7 = .ok (.return_, 1) := dk_177 (dk_at dksX8_readUnit_0 7 rfl rfl)
theorem dX8_readUnit_8 : decode cX8_readUnit 8 = .ok (.aload_n 0, 1) := dk_42 (dk_at dksX8_readUnit_0 8 rfl rfl)
theorem dX8_readUnit_9 : decode cX8_readUnit 9 = .ok (.invokevirtual 139, 3) := dk_182 0 139 (dk_at dksX8_readUnit_0 9 rfl rfl)
theorem dX8_readUnit_12 : decode cX8_readUnit 12 = .ok (.bipush 40, 2) := dk_16 40 (dk_at dksX8_readUnit_0 12 rfl rfl)
theorem dX8_readUnit_14 : decode cX8_readUnit 14 = .ok (.if_icmp .ne 31, 3) := dk_160 0 31 (dk_at dksX8_readUnit_0 14 rfl rfl)
theorem dX8_readUnit_17 : decode cX8_readUnit 17 = .ok (.aload_n 0, 1) := dk_42 (dk_at dksX8_readUnit_0 17 rfl rfl)
theorem dX8_readUnit_18 : decode cX8_readUnit 18 = .ok (.iconst 1, 1) := dk_4 (dk_at dksX8_readUnit_0 18 rfl rfl)
theorem dX8_readUnit_19 : decode cX8_readUnit 19 = .ok (.invokevirtual 258, 3) := dk_182 1 2 (dk_at dksX8_readUnit_0 19 rfl rfl)
theorem dX8_readUnit_22 : decode cX8_readUnit 22 = .ok (.aload_n 0, 1) := dk_42 (dk_at dksX8_readUnit_0 22 rfl rfl)
theorem dX8_readUnit_23 : decode cX8_readUnit 23 = .ok (.invokevirtual 261, 3) := dk_182 1 5 (dk_at dksX8_readUnit_1 0 rfl rfl)
theorem dX8_readUnit_26 : decode cX8_readUnit 26 = .ok (.aload_n 0, 1) := dk_42 (dk_at dksX8_readUnit_1 3 rfl rfl)
theorem dX8_readUnit_27 : decode cX8_readUnit 27 = .ok (.bipush 41, 2) := dk_16 41 (dk_at dksX8_readUnit_1 4 rfl rfl)
theorem dX8_readUnit_29 : decode cX8_readUnit 29 = .ok (.invokevirtual 239, 3) := dk_182 0 239 (dk_at dksX8_readUnit_1 6 rfl rfl)
theorem dX8_readUnit_32 : decode cX8_readUnit 32 = .ok (.aload_n 0, 1) := dk_42 (dk_at dksX8_readUnit_1 9 rfl rfl)
theorem dX8_readUnit_33 : decode cX8_readUnit 33 = .ok (.dup, 1) := dk_89 (dk_at dksX8_readUnit_1 10 rfl rfl)
theorem dX8_readUnit_34 : decode cX8_readUnit 34 = .ok (.getfield 167, 3) := dk_180 0 167 (dk_at dksX8_readUnit_1 11 rfl rfl)
theorem dX8_readUnit_37 : decode cX8_readUnit 37 = .ok (.iconst 1, 1) := dk_4 (dk_at dksX8_readUnit_1 14 rfl rfl)
theorem dX8_readUnit_38 : decode cX8_readUnit 38 = .ok (.isub, 1) := dk_100 (dk_at dksX8_readUnit_1 15 rfl rfl)
theorem dX8_readUnit_39 : decode cX8_readUnit 39 = .ok (.putfield 167, 3) := dk_181 0 167 (dk_at dksX8_readUnit_1 16 rfl rfl)
theorem dX8_readUnit_42 : decode cX8_readUnit 42 = .ok (.goto 112, 3) := dk_167 0 112 (dk_at dksX8_readUnit_1 19 rfl rfl)
theorem dX8_readUnit_45 : decode cX8_readUnit 45 = .ok (.aload_n 0, 1) := dk_42 (dk_at dksX8_readUnit_1 22 rfl rfl)
theorem dX8_readUnit_46 : decode cX8_readUnit 46 = .ok (.invokevirtual 139, 3) := dk_182 0 139 (dk_at dksX8_readUnit_2 0 rfl rfl)
theorem dX8_readUnit_49 : decode cX8_readUnit 49 = .ok (.invokestatic 160, 3) := dk_184 0 160 (dk_at dksX8_readUnit_2 3 rfl rfl)
theorem dX8_readUnit_52 : decode cX8_readUnit 52 = .ok (.ifCond .eq 19, 3) := dk_153 0 19 (dk_at dksX8_readUnit_2 6 rfl rfl)
theorem dX8_readUnit_55 : decode cX8_readUnit 55 = .ok (.aload_n 0, 1) := dk_42 (dk_at dksX8_readUnit_2 9 rfl rfl)
theorem dX8_readUnit_56 : decode cX8_readUnit 56 = .ok (.iconst 0, 1) := dk_3 (dk_at dksX8_readUnit_2 10 rfl rfl)
theorem dX8_readUnit_57 : decode cX8_readUnit 57 = .ok (.aload_n 0, 1) := dk_42 (dk_at dksX8_readUnit_2 11 rfl rfl)
theorem dX8_readUnit_58 : decode cX8_readUnit 58 = .ok (.iconst 0, 1) := dk_3 (dk_at dksX8_readUnit_2 12 rfl rfl)
theorem dX8_readUnit_59 : decode cX8_readUnit 59 = .ok (.sipush 999, 3) := dk_17 3 231 (dk_at dksX8_readUnit_2 13 rfl rfl)
theorem dX8_readUnit_62 : decode cX8_readUnit 62 = .ok (.invokevirtual 201, 3) := dk_182 0 201 (dk_at dksX8_readUnit_2 16 rfl rfl)
theorem dX8_readUnit_65 : decode cX8_readUnit 65 = .ok (.invokevirtual 252, 3) := dk_182 0 252 (dk_at dksX8_readUnit_2 19 rfl rfl)
theorem dX8_readUnit_68 : decode cX8_readUnit 68 = .ok (.goto 86, 3) := dk_167 0 86 (dk_at dksX8_readUnit_3 0 rfl rfl)
theorem dX8_readUnit_71 : decode cX8_readUnit 71 = .ok (.aload_n 0, 1) := dk_42 (dk_at dksX8_readUnit_3 3 rfl rfl)
theorem dX8_readUnit_72 : decode cX8_readUnit 72 = .ok (.invokevirtual 227, 3) := dk_182 0 227 (dk_at dksX8_readUnit_3 4 rfl rfl)
theorem dX8_readUnit_75 : decode cX8_readUnit 75 = .ok (.ldc_w 274, 3) := dk_19 1 18 (dk_at dksX8_readUnit_3 7 rfl rfl)
theorem dX8_readUnit_78 : decode cX8_readUnit 78 = .ok (.invokestatic 206, 3) := dk_184 0 206 (dk_at dksX8_readUnit_3 10 rfl rfl)
theorem dX8_readUnit_81 : decode cX8_readUnit 81 = .ok (.if_icmp .ne 13, 3) := dk_160 0 13 (dk_at dksX8_readUnit_3 13 rfl rfl)
theorem dX8_readUnit_84 : decode cX8_readUnit 84 = .ok (.aload_n 0, 1) := dk_42 (dk_at dksX8_readUnit_3 16 rfl rfl)
theorem dX8_readUnit_85 : decode cX8_readUnit 85 = .ok (.iconst 5, 1) := dk_8 (dk_at dksX8_readUnit_3 17 rfl rfl)
theorem dX8_readUnit_86 : decode cX8_readUnit 86 = .ok (.bipush 6, 2) := dk_16 6 (dk_at dksX8_readUnit_3 18 rfl rfl)
theorem dX8_readUnit_88 : decode cX8_readUnit 88 = .ok (.invokevirtual 276, 3) := dk_182 1 20 (dk_at dksX8_readUnit_3 20 rfl rfl)
theorem dX8_readUnit_91 : decode cX8_readUnit 91 = .ok (.goto 63, 3) := dk_167 0 63 (dk_at dksX8_readUnit_4 0 rfl rfl)
theorem dX8_readUnit_94 : decode cX8_readUnit 94 = .ok (.aload_n 0, 1) := dk_42 (dk_at dksX8_readUnit_4 3 rfl rfl)
theorem dX8_readUnit_95 : decode cX8_readUnit 95 = .ok (.invokevirtual 227, 3) := dk_182 0 227 (dk_at dksX8_readUnit_4 4 rfl rfl)
theorem dX8_readUnit_98 : decode cX8_readUnit 98 = .ok (.ldc_w 279, 3) := dk_19 1 23 (dk_at dksX8_readUnit_4 7 rfl rfl)
theorem dX8_readUnit_101 : decode cX8_readUnit 101 = .ok (.invokestatic 206, 3) := dk_184 0 206 (dk_at dksX8_readUnit_4 10 rfl rfl)
theorem dX8_readUnit_104 : decode cX8_readUnit 104 = .ok (.if_icmp .ne 13, 3) := dk_160 0 13 (dk_at dksX8_readUnit_4 13 rfl rfl)
theorem dX8_readUnit_107 : decode cX8_readUnit 107 = .ok (.aload_n 0, 1) := dk_42 (dk_at dksX8_readUnit_4 16 rfl rfl)
theorem dX8_readUnit_108 : decode cX8_readUnit 108 = .ok (.iconst 4, 1) := dk_7 (dk_at dksX8_readUnit_4 17 rfl rfl)
theorem dX8_readUnit_109 : decode cX8_readUnit 109 = .ok (.bipush 7, 2) := dk_16 7 (dk_at dksX8_readUnit_4 18 rfl rfl)
theorem dX8_readUnit_111 : decode cX8_readUnit 111 = .ok (.invokevirtual 276, 3) := dk_182 1 20 (dk_at dksX8_readUnit_4 20 rfl rfl)
theorem dX8_readUnit_114 : decode cX8_readUnit 114 = .ok (.goto 40, 3) := dk_167 0 40 (dk_at dksX8_readUnit_5 0 rfl rfl)
theorem dX8_readUnit_117 : decode cX8_readUnit 117 = .ok (.aload_n 0, 1) := dk_42 (dk_at dksX8_readUnit_5 3 rfl rfl)
theorem dX8_readUnit_118 : decode cX8_readUnit 118 = .ok (.invokevirtual 281, 3) := dk_182 1 25 (dk_at dksX8_readUnit_5 4 rfl rfl)
theorem dX8_readUnit_121 : decode cX8_readUnit 121 = .ok (.istore_n 1, 1) := dk_60 (dk_at dksX8_readUnit_5 7 rfl rfl)
theorem dX8_readUnit_122 : decode cX8_readUnit 122 = .ok (.iload_n 1, 1) := dk_27 (dk_at dksX8_readUnit_5 8 rfl rfl)
theorem dX8_readUnit_123 : decode cX8_readUnit 123 = .ok (.iconst (-1), 1) := dk_2 (dk_at dksX8_readUnit_5 9 rfl rfl)
theorem dX8_readUnit_124 : decode cX8_readUnit 124 = .ok (.if_icmp .ne 12, 3) := dk_160 0 12 (dk_at dksX8_readUnit_5 10 rfl rfl)
theorem dX8_readUnit_127 : decode cX8_readUnit 127 = .ok (.aload_n 0, 1) := dk_42 (dk_at dksX8_readUnit_5 13 rfl rfl)
theorem dX8_readUnit_128 : decode cX8_readUnit 128 = .ok (.iconst 1, 1) := dk_4 (dk_at dksX8_readUnit_5 14 rfl rfl)
theorem dX8_readUnit_129 : decode cX8_readUnit 129 = .ok (.aload_n 0, 1) := dk_42 (dk_at dksX8_readUnit_5 15 rfl rfl)
theorem dX8_readUnit_130 : decode cX8_readUnit 130 = .ok (.getfield 133, 3) := dk_180 0 133 (dk_at dksX8_readUnit_5 16 rfl rfl)
theorem dX8_readUnit_133 : decode cX8_readUnit 133 = .ok (.invokevirtual 163, 3) := dk_182 0 163 (dk_at dksX8_readUnit_5 19 rfl rfl)
theorem dX8_readUnit_136 : decode cX8_readUnit 136 = .ok (.aload_n 0, 1) := dk_42 (dk_at dksX8_readUnit_5 22 rfl rfl)
theorem dX8_readUnit_137 : decode cX8_readUnit 137 = .ok (.invokevirtual 156, 3) := dk_182 0 156 (dk_at dksX8_readUnit_6 0 rfl rfl)
theorem dX8_readUnit_140 : decode cX8_readUnit 140 = .ok (.ifCond .ne 4, 3) := dk_154 0 4 (dk_at dksX8_readUnit_6 3 rfl rfl)
theorem dX8_readUnit_143 : decode cX8_readUnit 143 = .ok (.return_, 1) := dk_177 (dk_at dksX8_readUnit_6 6 rfl rfl)
theorem dX8_readUnit_144 : decode cX8_readUnit 144 = .ok (.aload_n 0, 1) := dk_42 (dk_at dksX8_readUnit_6 7 rfl rfl)
theorem dX8_readUnit_145 : decode cX8_readUnit 145 = .ok (.invokevirtual 233, 3) := dk_182 0 233 (dk_at dksX8_readUnit_6 8 rfl rfl)
theorem dX8_readUnit_148 : decode cX8_readUnit 148 = .ok (.aload_n 0, 1) := dk_42 (dk_at dksX8_readUnit_6 11 rfl rfl)
theorem dX8_readUnit_149 : decode cX8_readUnit 149 = .ok (.iconst 1, 1) := dk_4 (dk_at dksX8_readUnit_6 12 rfl rfl)
theorem dX8_readUnit_150 : decode cX8_readUnit 150 = .ok (.iload_n 1, 1) := dk_27 (dk_at dksX8_readUnit_6 13 rfl rfl)
theorem dX8_readUnit_151 : decode cX8_readUnit 151 = .ok (.invokevirtual 252, 3) := dk_182 0 252 (dk_at dksX8_readUnit_6 14 rfl rfl)
theorem dX8_readUnit_154 : decode cX8_readUnit 154 = .ok (.return_, 1) := dk_177 (dk_at dksX8_readUnit_6 17 rfl rfl)
abbrev cX8_opensOne : ByteArray := prog_24_method_28_code
def yX8_opensOne : MethodName := ⟨RX8, "opensOne", "(I)V"⟩
def dkwX8_opensOne_2 : List UInt8 := [180, 0, 167, 4, 96, 181, 0, 167, 177]
abbrev dktX8_opensOne_2 : List UInt8 := dkwX8_opensOne_2 ++ []
def dkwX8_opensOne_1 : List UInt8 := [182, 0, 163, 42, 182, 0, 156, 153, 0, 13, 42, 89, 180, 0, 133, 27, 96, 181, 0, 133, 42, 89]
abbrev dktX8_opensOne_1 : List UInt8 := dkwX8_opensOne_1 ++ dktX8_opensOne_2
def dkwX8_opensOne_0 : List UInt8 := [42, 182, 0, 156, 153, 0, 21, 42, 180, 0, 167, 16, 6, 160, 0, 12, 42, 6, 42, 180, 0, 133]
abbrev dktX8_opensOne_0 : List UInt8 := dkwX8_opensOne_0 ++ dktX8_opensOne_1
theorem dksX8_opensOne_0 : cX8_opensOne.data.toList.drop 0 = dktX8_opensOne_0 := by decide +kernel
theorem dksX8_opensOne_1 : cX8_opensOne.data.toList.drop 22 = dktX8_opensOne_1 := dk_seg dksX8_opensOne_0 22 rfl rfl
theorem dksX8_opensOne_2 : cX8_opensOne.data.toList.drop 44 = dktX8_opensOne_2 := dk_seg dksX8_opensOne_1 22 rfl rfl
theorem dX8_opensOne_0 : decode cX8_opensOne 0 = .ok (.aload_n 0, 1) := dk_42 (dk_at dksX8_opensOne_0 0 rfl rfl)
theorem dX8_opensOne_1 : decode cX8_opensOne 1 = .ok (.invokevirtual 156, 3) := dk_182 0 156 (dk_at dksX8_opensOne_0 1 rfl rfl)
theorem dX8_opensOne_4 : decode cX8_opensOne 4 = .ok (.ifCond .eq 21, 3) := dk_153 0 21 (dk_at dksX8_opensOne_0 4 rfl rfl)
theorem dX8_opensOne_7 : decode cX8_opensOne 7 = .ok (.aload_n 0, 1) := dk_42 (dk_at dksX8_opensOne_0 7 rfl rfl)
theorem dX8_opensOne_8 : decode cX8_opensOne 8 = .ok (.getfield 167, 3) := dk_180 0 167 (dk_at dksX8_opensOne_0 8 rfl rfl)
theorem dX8_opensOne_11 : decode cX8_opensOne 11 = .ok (.bipush 6, 2) := dk_16 6 (dk_at dksX8_opensOne_0 11 rfl rfl)
theorem dX8_opensOne_13 : decode cX8_opensOne 13 = .ok (.if_icmp .ne 12, 3) := dk_160 0 12 (dk_at dksX8_opensOne_0 13 rfl rfl)
theorem dX8_opensOne_16 : decode cX8_opensOne 16 = .ok (.aload_n 0, 1) := dk_42 (dk_at dksX8_opensOne_0 16 rfl rfl)
theorem dX8_opensOne_17 : decode cX8_opensOne 17 = .ok (.iconst 3, 1) := dk_6 (dk_at dksX8_opensOne_0 17 rfl rfl)
theorem dX8_opensOne_18 : decode cX8_opensOne 18 = .ok (.aload_n 0, 1) := dk_42 (dk_at dksX8_opensOne_0 18 rfl rfl)
theorem dX8_opensOne_19 : decode cX8_opensOne 19 = .ok (.getfield 133, 3) := dk_180 0 133 (dk_at dksX8_opensOne_0 19 rfl rfl)
theorem dX8_opensOne_22 : decode cX8_opensOne 22 = .ok (.invokevirtual 163, 3) := dk_182 0 163 (dk_at dksX8_opensOne_1 0 rfl rfl)
theorem dX8_opensOne_25 : decode cX8_opensOne 25 = .ok (.aload_n 0, 1) := dk_42 (dk_at dksX8_opensOne_1 3 rfl rfl)
theorem dX8_opensOne_26 : decode cX8_opensOne 26 = .ok (.invokevirtual 156, 3) := dk_182 0 156 (dk_at dksX8_opensOne_1 4 rfl rfl)
theorem dX8_opensOne_29 : decode cX8_opensOne 29 = .ok (.ifCond .eq 13, 3) := dk_153 0 13 (dk_at dksX8_opensOne_1 7 rfl rfl)
theorem dX8_opensOne_32 : decode cX8_opensOne 32 = .ok (.aload_n 0, 1) := dk_42 (dk_at dksX8_opensOne_1 10 rfl rfl)
theorem dX8_opensOne_33 : decode cX8_opensOne 33 = .ok (.dup, 1) := dk_89 (dk_at dksX8_opensOne_1 11 rfl rfl)
theorem dX8_opensOne_34 : decode cX8_opensOne 34 = .ok (.getfield 133, 3) := dk_180 0 133 (dk_at dksX8_opensOne_1 12 rfl rfl)
theorem dX8_opensOne_37 : decode cX8_opensOne 37 = .ok (.iload_n 1, 1) := dk_27 (dk_at dksX8_opensOne_1 15 rfl rfl)
theorem dX8_opensOne_38 : decode cX8_opensOne 38 = .ok (.iadd, 1) := dk_96 (dk_at dksX8_opensOne_1 16 rfl rfl)
theorem dX8_opensOne_39 : decode cX8_opensOne 39 = .ok (.putfield 133, 3) := dk_181 0 133 (dk_at dksX8_opensOne_1 17 rfl rfl)
theorem dX8_opensOne_42 : decode cX8_opensOne 42 = .ok (.aload_n 0, 1) := dk_42 (dk_at dksX8_opensOne_1 20 rfl rfl)
theorem dX8_opensOne_43 : decode cX8_opensOne 43 = .ok (.dup, 1) := dk_89 (dk_at dksX8_opensOne_1 21 rfl rfl)
theorem dX8_opensOne_44 : decode cX8_opensOne 44 = .ok (.getfield 167, 3) := dk_180 0 167 (dk_at dksX8_opensOne_2 0 rfl rfl)
theorem dX8_opensOne_47 : decode cX8_opensOne 47 = .ok (.iconst 1, 1) := dk_4 (dk_at dksX8_opensOne_2 3 rfl rfl)
theorem dX8_opensOne_48 : decode cX8_opensOne 48 = .ok (.iadd, 1) := dk_96 (dk_at dksX8_opensOne_2 4 rfl rfl)
theorem dX8_opensOne_49 : decode cX8_opensOne 49 = .ok (.putfield 167, 3) := dk_181 0 167 (dk_at dksX8_opensOne_2 5 rfl rfl)
theorem dX8_opensOne_52 : decode cX8_opensOne 52 = .ok (.return_, 1) := dk_177 (dk_at dksX8_opensOne_2 8 rfl rfl)
abbrev cX8_emit : ByteArray := prog_24_method_27_code
def yX8_emit : MethodName := ⟨RX8, "emit", "(II)V"⟩
def dkwX8_emit_1 : List UInt8 := [180, 0, 246, 28, 79, 42, 89, 180, 0, 246, 4, 96, 181, 0, 246, 177]
abbrev dktX8_emit_1 : List UInt8 := dkwX8_emit_1 ++ []
def dkwX8_emit_0 : List UInt8 := [42, 182, 0, 156, 154, 0, 4, 177, 42, 180, 0, 47, 42, 180, 0, 246, 27, 79, 42, 180, 0, 50, 42]
abbrev dktX8_emit_0 : List UInt8 := dkwX8_emit_0 ++ dktX8_emit_1
theorem dksX8_emit_0 : cX8_emit.data.toList.drop 0 = dktX8_emit_0 := by decide +kernel
theorem dksX8_emit_1 : cX8_emit.data.toList.drop 23 = dktX8_emit_1 := dk_seg dksX8_emit_0 23 rfl rfl
theorem dX8_emit_0 : decode cX8_emit 0 = .ok (.aload_n 0, 1) := dk_42 (dk_at dksX8_emit_0 0 rfl rfl)
theorem dX8_emit_1 : decode cX8_emit 1 = .ok (.invokevirtual 156, 3) := dk_182 0 156 (dk_at dksX8_emit_0 1 rfl rfl)
theorem dX8_emit_4 : decode cX8_emit 4 = .ok (.ifCond .ne 4, 3) := dk_154 0 4 (dk_at dksX8_emit_0 4 rfl rfl)
theorem dX8_emit_7 : decode cX8_emit 7 = .ok (.return_, 1) := dk_177 (dk_at dksX8_emit_0 7 rfl rfl)
theorem dX8_emit_8 : decode cX8_emit 8 = .ok (.aload_n 0, 1) := dk_42 (dk_at dksX8_emit_0 8 rfl rfl)
theorem dX8_emit_9 : decode cX8_emit 9 = .ok (.getfield 47, 3) := dk_180 0 47 (dk_at dksX8_emit_0 9 rfl rfl)
theorem dX8_emit_12 : decode cX8_emit 12 = .ok (.aload_n 0, 1) := dk_42 (dk_at dksX8_emit_0 12 rfl rfl)
theorem dX8_emit_13 : decode cX8_emit 13 = .ok (.getfield 246, 3) := dk_180 0 246 (dk_at dksX8_emit_0 13 rfl rfl)
theorem dX8_emit_16 : decode cX8_emit 16 = .ok (.iload_n 1, 1) := dk_27 (dk_at dksX8_emit_0 16 rfl rfl)
theorem dX8_emit_17 : decode cX8_emit 17 = .ok (.iastore, 1) := dk_79 (dk_at dksX8_emit_0 17 rfl rfl)
theorem dX8_emit_18 : decode cX8_emit 18 = .ok (.aload_n 0, 1) := dk_42 (dk_at dksX8_emit_0 18 rfl rfl)
theorem dX8_emit_19 : decode cX8_emit 19 = .ok (.getfield 50, 3) := dk_180 0 50 (dk_at dksX8_emit_0 19 rfl rfl)
theorem dX8_emit_22 : decode cX8_emit 22 = .ok (.aload_n 0, 1) := dk_42 (dk_at dksX8_emit_0 22 rfl rfl)
theorem dX8_emit_23 : decode cX8_emit 23 = .ok (.getfield 246, 3) := dk_180 0 246 (dk_at dksX8_emit_1 0 rfl rfl)
theorem dX8_emit_26 : decode cX8_emit 26 = .ok (.iload_n 2, 1) := dk_28 (dk_at dksX8_emit_1 3 rfl rfl)
theorem dX8_emit_27 : decode cX8_emit 27 = .ok (.iastore, 1) := dk_79 (dk_at dksX8_emit_1 4 rfl rfl)
theorem dX8_emit_28 : decode cX8_emit 28 = .ok (.aload_n 0, 1) := dk_42 (dk_at dksX8_emit_1 5 rfl rfl)
theorem dX8_emit_29 : decode cX8_emit 29 = .ok (.dup, 1) := dk_89 (dk_at dksX8_emit_1 6 rfl rfl)
theorem dX8_emit_30 : decode cX8_emit 30 = .ok (.getfield 246, 3) := dk_180 0 246 (dk_at dksX8_emit_1 7 rfl rfl)
theorem dX8_emit_33 : decode cX8_emit 33 = .ok (.iconst 1, 1) := dk_4 (dk_at dksX8_emit_1 10 rfl rfl)
theorem dX8_emit_34 : decode cX8_emit 34 = .ok (.iadd, 1) := dk_96 (dk_at dksX8_emit_1 11 rfl rfl)
theorem dX8_emit_35 : decode cX8_emit 35 = .ok (.putfield 246, 3) := dk_181 0 246 (dk_at dksX8_emit_1 12 rfl rfl)
theorem dX8_emit_38 : decode cX8_emit 38 = .ok (.return_, 1) := dk_177 (dk_at dksX8_emit_1 15 rfl rfl)
abbrev cX8_readTwo : ByteArray := prog_24_method_31_code
def yX8_readTwo : MethodName := ⟨RX8, "readTwo", "(II)V"⟩
def dkwX8_readTwo_2 : List UInt8 := [182, 0, 252, 177]
abbrev dktX8_readTwo_2 : List UInt8 := dkwX8_readTwo_2 ++ []
def dkwX8_readTwo_1 : List UInt8 := [182, 1, 5, 42, 16, 93, 182, 0, 239, 42, 89, 180, 0, 167, 4, 100, 181, 0, 167, 42, 28, 3]
abbrev dktX8_readTwo_1 : List UInt8 := dkwX8_readTwo_1 ++ dktX8_readTwo_2
def dkwX8_readTwo_0 : List UInt8 := [42, 27, 182, 1, 2, 42, 16, 91, 182, 0, 239, 42, 182, 1, 5, 42, 16, 44, 182, 0, 239, 42]
abbrev dktX8_readTwo_0 : List UInt8 := dkwX8_readTwo_0 ++ dktX8_readTwo_1
theorem dksX8_readTwo_0 : cX8_readTwo.data.toList.drop 0 = dktX8_readTwo_0 := by decide +kernel
theorem dksX8_readTwo_1 : cX8_readTwo.data.toList.drop 22 = dktX8_readTwo_1 := dk_seg dksX8_readTwo_0 22 rfl rfl
theorem dksX8_readTwo_2 : cX8_readTwo.data.toList.drop 44 = dktX8_readTwo_2 := dk_seg dksX8_readTwo_1 22 rfl rfl
theorem dX8_readTwo_0 : decode cX8_readTwo 0 = .ok (.aload_n 0, 1) := dk_42 (dk_at dksX8_readTwo_0 0 rfl rfl)
theorem dX8_readTwo_1 : decode cX8_readTwo 1 = .ok (.iload_n 1, 1) := dk_27 (dk_at dksX8_readTwo_0 1 rfl rfl)
theorem dX8_readTwo_2 : decode cX8_readTwo 2 = .ok (.invokevirtual 258, 3) := dk_182 1 2 (dk_at dksX8_readTwo_0 2 rfl rfl)
theorem dX8_readTwo_5 : decode cX8_readTwo 5 = .ok (.aload_n 0, 1) := dk_42 (dk_at dksX8_readTwo_0 5 rfl rfl)
theorem dX8_readTwo_6 : decode cX8_readTwo 6 = .ok (.bipush 91, 2) := dk_16 91 (dk_at dksX8_readTwo_0 6 rfl rfl)
theorem dX8_readTwo_8 : decode cX8_readTwo 8 = .ok (.invokevirtual 239, 3) := dk_182 0 239 (dk_at dksX8_readTwo_0 8 rfl rfl)
theorem dX8_readTwo_11 : decode cX8_readTwo 11 = .ok (.aload_n 0, 1) := dk_42 (dk_at dksX8_readTwo_0 11 rfl rfl)
theorem dX8_readTwo_12 : decode cX8_readTwo 12 = .ok (.invokevirtual 261, 3) := dk_182 1 5 (dk_at dksX8_readTwo_0 12 rfl rfl)
theorem dX8_readTwo_15 : decode cX8_readTwo 15 = .ok (.aload_n 0, 1) := dk_42 (dk_at dksX8_readTwo_0 15 rfl rfl)
theorem dX8_readTwo_16 : decode cX8_readTwo 16 = .ok (.bipush 44, 2) := dk_16 44 (dk_at dksX8_readTwo_0 16 rfl rfl)
theorem dX8_readTwo_18 : decode cX8_readTwo 18 = .ok (.invokevirtual 239, 3) := dk_182 0 239 (dk_at dksX8_readTwo_0 18 rfl rfl)
theorem dX8_readTwo_21 : decode cX8_readTwo 21 = .ok (.aload_n 0, 1) := dk_42 (dk_at dksX8_readTwo_0 21 rfl rfl)
theorem dX8_readTwo_22 : decode cX8_readTwo 22 = .ok (.invokevirtual 261, 3) := dk_182 1 5 (dk_at dksX8_readTwo_1 0 rfl rfl)
theorem dX8_readTwo_25 : decode cX8_readTwo 25 = .ok (.aload_n 0, 1) := dk_42 (dk_at dksX8_readTwo_1 3 rfl rfl)
theorem dX8_readTwo_26 : decode cX8_readTwo 26 = .ok (.bipush 93, 2) := dk_16 93 (dk_at dksX8_readTwo_1 4 rfl rfl)
theorem dX8_readTwo_28 : decode cX8_readTwo 28 = .ok (.invokevirtual 239, 3) := dk_182 0 239 (dk_at dksX8_readTwo_1 6 rfl rfl)
theorem dX8_readTwo_31 : decode cX8_readTwo 31 = .ok (.aload_n 0, 1) := dk_42 (dk_at dksX8_readTwo_1 9 rfl rfl)
theorem dX8_readTwo_32 : decode cX8_readTwo 32 = .ok (.dup, 1) := dk_89 (dk_at dksX8_readTwo_1 10 rfl rfl)
theorem dX8_readTwo_33 : decode cX8_readTwo 33 = .ok (.getfield 167, 3) := dk_180 0 167 (dk_at dksX8_readTwo_1 11 rfl rfl)
theorem dX8_readTwo_36 : decode cX8_readTwo 36 = .ok (.iconst 1, 1) := dk_4 (dk_at dksX8_readTwo_1 14 rfl rfl)
theorem dX8_readTwo_37 : decode cX8_readTwo 37 = .ok (.isub, 1) := dk_100 (dk_at dksX8_readTwo_1 15 rfl rfl)
theorem dX8_readTwo_38 : decode cX8_readTwo 38 = .ok (.putfield 167, 3) := dk_181 0 167 (dk_at dksX8_readTwo_1 16 rfl rfl)
theorem dX8_readTwo_41 : decode cX8_readTwo 41 = .ok (.aload_n 0, 1) := dk_42 (dk_at dksX8_readTwo_1 19 rfl rfl)
theorem dX8_readTwo_42 : decode cX8_readTwo 42 = .ok (.iload_n 2, 1) := dk_28 (dk_at dksX8_readTwo_1 20 rfl rfl)
theorem dX8_readTwo_43 : decode cX8_readTwo 43 = .ok (.iconst 0, 1) := dk_3 (dk_at dksX8_readTwo_1 21 rfl rfl)
theorem dX8_readTwo_44 : decode cX8_readTwo 44 = .ok (.invokevirtual 252, 3) := dk_182 0 252 (dk_at dksX8_readTwo_2 0 rfl rfl)
theorem dX8_readTwo_47 : decode cX8_readTwo 47 = .ok (.return_, 1) := dk_177 (dk_at dksX8_readTwo_2 3 rfl rfl)
abbrev cX8_factHere : ByteArray := prog_24_method_32_code
def yX8_factHere : MethodName := ⟨RX8, "factHere", "()I"⟩
def dkwX8_factHere_4 : List UInt8 := [160, 0, 8, 16, 6, 167, 0, 18, 27, 18, 210, 184, 0, 206, 160, 0, 8, 16, 7, 167, 0, 4, 2, 172]
abbrev dktX8_factHere_4 : List UInt8 := dkwX8_factHere_4 ++ []
def dkwX8_factHere_3 : List UInt8 := [167, 0, 47, 27, 19, 1, 14, 184, 0, 206, 160, 0, 7, 8, 167, 0, 33, 27, 19, 1, 16, 184, 0, 206]
abbrev dktX8_factHere_3 : List UInt8 := dkwX8_factHere_3 ++ dktX8_factHere_4
def dkwX8_factHere_2 : List UInt8 := [18, 212, 184, 0, 206, 160, 0, 7, 6, 167, 0, 61, 27, 19, 1, 12, 184, 0, 206, 160, 0, 7, 7]
abbrev dktX8_factHere_2 : List UInt8 := dkwX8_factHere_2 ++ dktX8_factHere_3
def dkwX8_factHere_1 : List UInt8 := [184, 0, 206, 160, 0, 7, 4, 167, 0, 87, 27, 18, 211, 184, 0, 206, 160, 0, 7, 5, 167, 0, 74, 27]
abbrev dktX8_factHere_1 : List UInt8 := dkwX8_factHere_1 ++ dktX8_factHere_2
def dkwX8_factHere_0 : List UInt8 := [42, 182, 0, 227, 60, 27, 19, 1, 8, 184, 0, 206, 160, 0, 7, 3, 167, 0, 101, 27, 19, 1, 10]
abbrev dktX8_factHere_0 : List UInt8 := dkwX8_factHere_0 ++ dktX8_factHere_1
theorem dksX8_factHere_0 : cX8_factHere.data.toList.drop 0 = dktX8_factHere_0 := by decide +kernel
theorem dksX8_factHere_1 : cX8_factHere.data.toList.drop 23 = dktX8_factHere_1 := dk_seg dksX8_factHere_0 23 rfl rfl
theorem dksX8_factHere_2 : cX8_factHere.data.toList.drop 47 = dktX8_factHere_2 := dk_seg dksX8_factHere_1 24 rfl rfl
theorem dksX8_factHere_3 : cX8_factHere.data.toList.drop 70 = dktX8_factHere_3 := dk_seg dksX8_factHere_2 23 rfl rfl
theorem dksX8_factHere_4 : cX8_factHere.data.toList.drop 94 = dktX8_factHere_4 := dk_seg dksX8_factHere_3 24 rfl rfl
theorem dX8_factHere_0 : decode cX8_factHere 0 = .ok (.aload_n 0, 1) := dk_42 (dk_at dksX8_factHere_0 0 rfl rfl)
theorem dX8_factHere_1 : decode cX8_factHere 1 = .ok (.invokevirtual 227, 3) := dk_182 0 227 (dk_at dksX8_factHere_0 1 rfl rfl)
theorem dX8_factHere_4 : decode cX8_factHere 4 = .ok (.istore_n 1, 1) := dk_60 (dk_at dksX8_factHere_0 4 rfl rfl)
theorem dX8_factHere_5 : decode cX8_factHere 5 = .ok (.iload_n 1, 1) := dk_27 (dk_at dksX8_factHere_0 5 rfl rfl)
theorem dX8_factHere_6 : decode cX8_factHere 6 = .ok (.ldc_w 264, 3) := dk_19 1 8 (dk_at dksX8_factHere_0 6 rfl rfl)
theorem dX8_factHere_9 : decode cX8_factHere 9 = .ok (.invokestatic 206, 3) := dk_184 0 206 (dk_at dksX8_factHere_0 9 rfl rfl)
theorem dX8_factHere_12 : decode cX8_factHere 12 = .ok (.if_icmp .ne 7, 3) := dk_160 0 7 (dk_at dksX8_factHere_0 12 rfl rfl)
theorem dX8_factHere_15 : decode cX8_factHere 15 = .ok (.iconst 0, 1) := dk_3 (dk_at dksX8_factHere_0 15 rfl rfl)
theorem dX8_factHere_16 : decode cX8_factHere 16 = .ok (.goto 101, 3) := dk_167 0 101 (dk_at dksX8_factHere_0 16 rfl rfl)
theorem dX8_factHere_19 : decode cX8_factHere 19 = .ok (.iload_n 1, 1) := dk_27 (dk_at dksX8_factHere_0 19 rfl rfl)
theorem dX8_factHere_20 : decode cX8_factHere 20 = .ok (.ldc_w 266, 3) := dk_19 1 10 (dk_at dksX8_factHere_0 20 rfl rfl)
theorem dX8_factHere_23 : decode cX8_factHere 23 = .ok (.invokestatic 206, 3) := dk_184 0 206 (dk_at dksX8_factHere_1 0 rfl rfl)
theorem dX8_factHere_26 : decode cX8_factHere 26 = .ok (.if_icmp .ne 7, 3) := dk_160 0 7 (dk_at dksX8_factHere_1 3 rfl rfl)
theorem dX8_factHere_29 : decode cX8_factHere 29 = .ok (.iconst 1, 1) := dk_4 (dk_at dksX8_factHere_1 6 rfl rfl)
theorem dX8_factHere_30 : decode cX8_factHere 30 = .ok (.goto 87, 3) := dk_167 0 87 (dk_at dksX8_factHere_1 7 rfl rfl)
theorem dX8_factHere_33 : decode cX8_factHere 33 = .ok (.iload_n 1, 1) := dk_27 (dk_at dksX8_factHere_1 10 rfl rfl)
theorem dX8_factHere_34 : decode cX8_factHere 34 = .ok (.ldc 211, 2) := dk_18 211 (dk_at dksX8_factHere_1 11 rfl rfl)
theorem dX8_factHere_36 : decode cX8_factHere 36 = .ok (.invokestatic 206, 3) := dk_184 0 206 (dk_at dksX8_factHere_1 13 rfl rfl)
theorem dX8_factHere_39 : decode cX8_factHere 39 = .ok (.if_icmp .ne 7, 3) := dk_160 0 7 (dk_at dksX8_factHere_1 16 rfl rfl)
theorem dX8_factHere_42 : decode cX8_factHere 42 = .ok (.iconst 2, 1) := dk_5 (dk_at dksX8_factHere_1 19 rfl rfl)
theorem dX8_factHere_43 : decode cX8_factHere 43 = .ok (.goto 74, 3) := dk_167 0 74 (dk_at dksX8_factHere_1 20 rfl rfl)
theorem dX8_factHere_46 : decode cX8_factHere 46 = .ok (.iload_n 1, 1) := dk_27 (dk_at dksX8_factHere_1 23 rfl rfl)
theorem dX8_factHere_47 : decode cX8_factHere 47 = .ok (.ldc 212, 2) := dk_18 212 (dk_at dksX8_factHere_2 0 rfl rfl)
theorem dX8_factHere_49 : decode cX8_factHere 49 = .ok (.invokestatic 206, 3) := dk_184 0 206 (dk_at dksX8_factHere_2 2 rfl rfl)
theorem dX8_factHere_52 : decode cX8_factHere 52 = .ok (.if_icmp .ne 7, 3) := dk_160 0 7 (dk_at dksX8_factHere_2 5 rfl rfl)
theorem dX8_factHere_55 : decode cX8_factHere 55 = .ok (.iconst 3, 1) := dk_6 (dk_at dksX8_factHere_2 8 rfl rfl)
theorem dX8_factHere_56 : decode cX8_factHere 56 = .ok (.goto 61, 3) := dk_167 0 61 (dk_at dksX8_factHere_2 9 rfl rfl)
theorem dX8_factHere_59 : decode cX8_factHere 59 = .ok (.iload_n 1, 1) := dk_27 (dk_at dksX8_factHere_2 12 rfl rfl)
theorem dX8_factHere_60 : decode cX8_factHere 60 = .ok (.ldc_w 268, 3) := dk_19 1 12 (dk_at dksX8_factHere_2 13 rfl rfl)
theorem dX8_factHere_63 : decode cX8_factHere 63 = .ok (.invokestatic 206, 3) := dk_184 0 206 (dk_at dksX8_factHere_2 16 rfl rfl)
theorem dX8_factHere_66 : decode cX8_factHere 66 = .ok (.if_icmp .ne 7, 3) := dk_160 0 7 (dk_at dksX8_factHere_2 19 rfl rfl)
theorem dX8_factHere_69 : decode cX8_factHere 69 = .ok (.iconst 4, 1) := dk_7 (dk_at dksX8_factHere_2 22 rfl rfl)
theorem dX8_factHere_70 : decode cX8_factHere 70 = .ok (.goto 47, 3) := dk_167 0 47 (dk_at dksX8_factHere_3 0 rfl rfl)
theorem dX8_factHere_73 : decode cX8_factHere 73 = .ok (.iload_n 1, 1) := dk_27 (dk_at dksX8_factHere_3 3 rfl rfl)
theorem dX8_factHere_74 : decode cX8_factHere 74 = .ok (.ldc_w 270, 3) := dk_19 1 14 (dk_at dksX8_factHere_3 4 rfl rfl)
theorem dX8_factHere_77 : decode cX8_factHere 77 = .ok (.invokestatic 206, 3) := dk_184 0 206 (dk_at dksX8_factHere_3 7 rfl rfl)
theorem dX8_factHere_80 : decode cX8_factHere 80 = .ok (.if_icmp .ne 7, 3) := dk_160 0 7 (dk_at dksX8_factHere_3 10 rfl rfl)
theorem dX8_factHere_83 : decode cX8_factHere 83 = .ok (.iconst 5, 1) := dk_8 (dk_at dksX8_factHere_3 13 rfl rfl)
theorem dX8_factHere_84 : decode cX8_factHere 84 = .ok (.goto 33, 3) := dk_167 0 33 (dk_at dksX8_factHere_3 14 rfl rfl)
theorem dX8_factHere_87 : decode cX8_factHere 87 = .ok (.iload_n 1, 1) := dk_27 (dk_at dksX8_factHere_3 17 rfl rfl)
theorem dX8_factHere_88 : decode cX8_factHere 88 = .ok (.ldc_w 272, 3) := dk_19 1 16 (dk_at dksX8_factHere_3 18 rfl rfl)
theorem dX8_factHere_91 : decode cX8_factHere 91 = .ok (.invokestatic 206, 3) := dk_184 0 206 (dk_at dksX8_factHere_3 21 rfl rfl)
theorem dX8_factHere_94 : decode cX8_factHere 94 = .ok (.if_icmp .ne 8, 3) := dk_160 0 8 (dk_at dksX8_factHere_4 0 rfl rfl)
theorem dX8_factHere_97 : decode cX8_factHere 97 = .ok (.bipush 6, 2) := dk_16 6 (dk_at dksX8_factHere_4 3 rfl rfl)
theorem dX8_factHere_99 : decode cX8_factHere 99 = .ok (.goto 18, 3) := dk_167 0 18 (dk_at dksX8_factHere_4 5 rfl rfl)
theorem dX8_factHere_102 : decode cX8_factHere 102 = .ok (.iload_n 1, 1) := dk_27 (dk_at dksX8_factHere_4 8 rfl rfl)
theorem dX8_factHere_103 : decode cX8_factHere 103 = .ok (.ldc 210, 2) := dk_18 210 (dk_at dksX8_factHere_4 9 rfl rfl)
theorem dX8_factHere_105 : decode cX8_factHere 105 = .ok (.invokestatic 206, 3) := dk_184 0 206 (dk_at dksX8_factHere_4 11 rfl rfl)
theorem dX8_factHere_108 : decode cX8_factHere 108 = .ok (.if_icmp .ne 8, 3) := dk_160 0 8 (dk_at dksX8_factHere_4 14 rfl rfl)
theorem dX8_factHere_111 : decode cX8_factHere 111 = .ok (.bipush 7, 2) := dk_16 7 (dk_at dksX8_factHere_4 17 rfl rfl)
theorem dX8_factHere_113 : decode cX8_factHere 113 = .ok (.goto 4, 3) := dk_167 0 4 (dk_at dksX8_factHere_4 19 rfl rfl)
theorem dX8_factHere_116 : decode cX8_factHere 116 = .ok (.iconst (-1), 1) := dk_2 (dk_at dksX8_factHere_4 22 rfl rfl)
theorem dX8_factHere_117 : decode cX8_factHere 117 = .ok (.ireturn, 1) := dk_172 (dk_at dksX8_factHere_4 23 rfl rfl)
abbrev cX8_work : ByteArray := prog_24_method_40_code
def yX8_work : MethodName := ⟨RX8, "work", "(I)I"⟩
def dkwX8_work_9 : List UInt8 := [180, 1, 68, 181, 0, 198, 42, 180, 1, 65, 172]
abbrev dktX8_work_9 : List UInt8 := dkwX8_work_9 ++ []
def dkwX8_work_8 : List UInt8 := [42, 180, 1, 35, 182, 1, 71, 42, 42, 180, 0, 74, 42, 180, 0, 71, 16, 50, 182, 0, 182, 42, 42]
abbrev dktX8_work_8 : List UInt8 := dkwX8_work_8 ++ dktX8_work_9
def dkwX8_work_7 : List UInt8 := [181, 0, 192, 42, 182, 1, 59, 42, 3, 181, 1, 62, 42, 3, 181, 1, 65, 42, 3, 181, 1, 68, 42, 3]
abbrev dktX8_work_7 : List UInt8 := dkwX8_work_7 ++ dktX8_work_8
def dkwX8_work_6 : List UInt8 := [104, 29, 96, 42, 180, 0, 71, 29, 46, 79, 132, 3, 1, 167, 255, 227, 42, 89, 180, 0, 192, 4, 96]
abbrev dktX8_work_6 : List UInt8 := dkwX8_work_6 ++ dktX8_work_7
def dkwX8_work_5 : List UInt8 := [180, 1, 35, 182, 0, 182, 3, 62, 29, 16, 50, 162, 0, 29, 42, 180, 0, 77, 16, 50, 42, 180, 0, 192]
abbrev dktX8_work_5 : List UInt8 := dkwX8_work_5 ++ dktX8_work_6
def dkwX8_work_4 : List UInt8 := [182, 0, 242, 61, 42, 180, 0, 127, 2, 159, 0, 5, 28, 172, 42, 42, 180, 0, 65, 42, 180, 0, 68, 42]
abbrev dktX8_work_4 : List UInt8 := dkwX8_work_4 ++ dktX8_work_5
def dkwX8_work_3 : List UInt8 := [182, 0, 156, 153, 0, 17, 42, 182, 0, 224, 153, 0, 10, 42, 182, 1, 56, 167, 255, 238, 42, 3]
abbrev dktX8_work_3 : List UInt8 := dkwX8_work_3 ++ dktX8_work_4
def dkwX8_work_2 : List UInt8 := [180, 0, 192, 16, 16, 160, 0, 12, 42, 3, 182, 0, 242, 87, 16, 236, 172, 42, 3, 181, 1, 35, 42]
abbrev dktX8_work_2 : List UInt8 := dkwX8_work_2 ++ dktX8_work_3
def dkwX8_work_1 : List UInt8 := [163, 0, 7, 4, 167, 0, 4, 3, 4, 4, 182, 0, 216, 154, 0, 5, 3, 172, 42, 27, 182, 0, 220, 42]
abbrev dktX8_work_1 : List UInt8 := dkwX8_work_1 ++ dktX8_work_2
def dkwX8_work_0 : List UInt8 := [42, 3, 181, 0, 3, 42, 27, 155, 0, 22, 27, 42, 180, 0, 124, 163, 0, 14, 27, 17, 0, 150]
abbrev dktX8_work_0 : List UInt8 := dkwX8_work_0 ++ dktX8_work_1
theorem dksX8_work_0 : cX8_work.data.toList.drop 0 = dktX8_work_0 := by decide +kernel
theorem dksX8_work_1 : cX8_work.data.toList.drop 22 = dktX8_work_1 := dk_seg dksX8_work_0 22 rfl rfl
theorem dksX8_work_2 : cX8_work.data.toList.drop 46 = dktX8_work_2 := dk_seg dksX8_work_1 24 rfl rfl
theorem dksX8_work_3 : cX8_work.data.toList.drop 69 = dktX8_work_3 := dk_seg dksX8_work_2 23 rfl rfl
theorem dksX8_work_4 : cX8_work.data.toList.drop 91 = dktX8_work_4 := dk_seg dksX8_work_3 22 rfl rfl
theorem dksX8_work_5 : cX8_work.data.toList.drop 115 = dktX8_work_5 := dk_seg dksX8_work_4 24 rfl rfl
theorem dksX8_work_6 : cX8_work.data.toList.drop 139 = dktX8_work_6 := dk_seg dksX8_work_5 24 rfl rfl
theorem dksX8_work_7 : cX8_work.data.toList.drop 162 = dktX8_work_7 := dk_seg dksX8_work_6 23 rfl rfl
theorem dksX8_work_8 : cX8_work.data.toList.drop 186 = dktX8_work_8 := dk_seg dksX8_work_7 24 rfl rfl
theorem dksX8_work_9 : cX8_work.data.toList.drop 209 = dktX8_work_9 := dk_seg dksX8_work_8 23 rfl rfl
theorem dX8_work_0 : decode cX8_work 0 = .ok (.aload_n 0, 1) := dk_42 (dk_at dksX8_work_0 0 rfl rfl)
theorem dX8_work_1 : decode cX8_work 1 = .ok (.iconst 0, 1) := dk_3 (dk_at dksX8_work_0 1 rfl rfl)
theorem dX8_work_2 : decode cX8_work 2 = .ok (.putfield 3, 3) := dk_181 0 3 (dk_at dksX8_work_0 2 rfl rfl)
theorem dX8_work_5 : decode cX8_work 5 = .ok (.aload_n 0, 1) := dk_42 (dk_at dksX8_work_0 5 rfl rfl)
theorem dX8_work_6 : decode cX8_work 6 = .ok (.iload_n 1, 1) := dk_27 (dk_at dksX8_work_0 6 rfl rfl)
theorem dX8_work_7 : decode cX8_work 7 = .ok (.ifCond .lt 22, 3) := dk_155 0 22 (dk_at dksX8_work_0 7 rfl rfl)
theorem dX8_work_10 : decode cX8_work 10 = .ok (.iload_n 1, 1) := dk_27 (dk_at dksX8_work_0 10 rfl rfl)
theorem dX8_work_11 : decode cX8_work 11 = .ok (.aload_n 0, 1) := dk_42 (dk_at dksX8_work_0 11 rfl rfl)
theorem dX8_work_12 : decode cX8_work 12 = .ok (.getfield 124, 3) := dk_180 0 124 (dk_at dksX8_work_0 12 rfl rfl)
theorem dX8_work_15 : decode cX8_work 15 = .ok (.if_icmp .gt 14, 3) := dk_163 0 14 (dk_at dksX8_work_0 15 rfl rfl)
theorem dX8_work_18 : decode cX8_work 18 = .ok (.iload_n 1, 1) := dk_27 (dk_at dksX8_work_0 18 rfl rfl)
theorem dX8_work_19 : decode cX8_work 19 = .ok (.sipush 150, 3) := dk_17 0 150 (dk_at dksX8_work_0 19 rfl rfl)
theorem dX8_work_22 : decode cX8_work 22 = .ok (.if_icmp .gt 7, 3) := dk_163 0 7 (dk_at dksX8_work_1 0 rfl rfl)
theorem dX8_work_25 : decode cX8_work 25 = .ok (.iconst 1, 1) := dk_4 (dk_at dksX8_work_1 3 rfl rfl)
theorem dX8_work_26 : decode cX8_work 26 = .ok (.goto 4, 3) := dk_167 0 4 (dk_at dksX8_work_1 4 rfl rfl)
theorem dX8_work_29 : decode cX8_work 29 = .ok (.iconst 0, 1) := dk_3 (dk_at dksX8_work_1 7 rfl rfl)
theorem dX8_work_30 : decode cX8_work 30 = .ok (.iconst 1, 1) := dk_4 (dk_at dksX8_work_1 8 rfl rfl)
theorem dX8_work_31 : decode cX8_work 31 = .ok (.iconst 1, 1) := dk_4 (dk_at dksX8_work_1 9 rfl rfl)
theorem dX8_work_32 : decode cX8_work 32 = .ok (.invokevirtual 216, 3) := dk_182 0 216 (dk_at dksX8_work_1 10 rfl rfl)
theorem dX8_work_35 : decode cX8_work 35 = .ok (.ifCond .ne 5, 3) := dk_154 0 5 (dk_at dksX8_work_1 13 rfl rfl)
theorem dX8_work_38 : decode cX8_work 38 = .ok (.iconst 0, 1) := dk_3 (dk_at dksX8_work_1 16 rfl rfl)
theorem dX8_work_39 : decode cX8_work 39 = .ok (.ireturn, 1) := dk_172 (dk_at dksX8_work_1 17 rfl rfl)
theorem dX8_work_40 : decode cX8_work 40 = .ok (.aload_n 0, 1) := dk_42 (dk_at dksX8_work_1 18 rfl rfl)
theorem dX8_work_41 : decode cX8_work 41 = .ok (.iload_n 1, 1) := dk_27 (dk_at dksX8_work_1 19 rfl rfl)
theorem dX8_work_42 : decode cX8_work 42 = .ok (.invokevirtual 220, 3) := dk_182 0 220 (dk_at dksX8_work_1 20 rfl rfl)
theorem dX8_work_45 : decode cX8_work 45 = .ok (.aload_n 0, 1) := dk_42 (dk_at dksX8_work_1 23 rfl rfl)
theorem dX8_work_46 : decode cX8_work 46 = .ok (.getfield 192, 3) := dk_180 0 192 (dk_at dksX8_work_2 0 rfl rfl)
theorem dX8_work_49 : decode cX8_work 49 = .ok (.bipush 16, 2) := dk_16 16 (dk_at dksX8_work_2 3 rfl rfl)
theorem dX8_work_51 : decode cX8_work 51 = .ok (.if_icmp .ne 12, 3) := dk_160 0 12 (dk_at dksX8_work_2 5 rfl rfl)
theorem dX8_work_54 : decode cX8_work 54 = .ok (.aload_n 0, 1) := dk_42 (dk_at dksX8_work_2 8 rfl rfl)
theorem dX8_work_55 : decode cX8_work 55 = .ok (.iconst 0, 1) := dk_3 (dk_at dksX8_work_2 9 rfl rfl)
theorem dX8_work_56 : decode cX8_work 56 = .ok (.invokevirtual 242, 3) := dk_182 0 242 (dk_at dksX8_work_2 10 rfl rfl)
theorem dX8_work_59 : decode cX8_work 59 = .ok (.pop, 1) := dk_87 (dk_at dksX8_work_2 13 rfl rfl)
theorem dX8_work_60 : decode cX8_work 60 = .ok (.bipush (-20), 2) := dk_16 236 (dk_at dksX8_work_2 14 rfl rfl)
theorem dX8_work_62 : decode cX8_work 62 = .ok (.ireturn, 1) := dk_172 (dk_at dksX8_work_2 16 rfl rfl)
theorem dX8_work_63 : decode cX8_work 63 = .ok (.aload_n 0, 1) := dk_42 (dk_at dksX8_work_2 17 rfl rfl)
theorem dX8_work_64 : decode cX8_work 64 = .ok (.iconst 0, 1) := dk_3 (dk_at dksX8_work_2 18 rfl rfl)
theorem dX8_work_65 : decode cX8_work 65 = .ok (.putfield 291, 3) := dk_181 1 35 (dk_at dksX8_work_2 19 rfl rfl)
theorem dX8_work_68 : decode cX8_work 68 = .ok (.aload_n 0, 1) := dk_42 (dk_at dksX8_work_2 22 rfl rfl)
theorem dX8_work_69 : decode cX8_work 69 = .ok (.invokevirtual 156, 3) := dk_182 0 156 (dk_at dksX8_work_3 0 rfl rfl)
theorem dX8_work_72 : decode cX8_work 72 = .ok (.ifCond .eq 17, 3) := dk_153 0 17 (dk_at dksX8_work_3 3 rfl rfl)
theorem dX8_work_75 : decode cX8_work 75 = .ok (.aload_n 0, 1) := dk_42 (dk_at dksX8_work_3 6 rfl rfl)
theorem dX8_work_76 : decode cX8_work 76 = .ok (.invokevirtual 224, 3) := dk_182 0 224 (dk_at dksX8_work_3 7 rfl rfl)
theorem dX8_work_79 : decode cX8_work 79 = .ok (.ifCond .eq 10, 3) := dk_153 0 10 (dk_at dksX8_work_3 10 rfl rfl)
theorem dX8_work_82 : decode cX8_work 82 = .ok (.aload_n 0, 1) := dk_42 (dk_at dksX8_work_3 13 rfl rfl)
theorem dX8_work_83 : decode cX8_work 83 = .ok (.invokevirtual 312, 3) := dk_182 1 56 (dk_at dksX8_work_3 14 rfl rfl)
theorem dX8_work_86 : decode cX8_work 86 = .ok (.goto (-18), 3) := dk_167 255 238 (dk_at dksX8_work_3 17 rfl rfl)
theorem dX8_work_89 : decode cX8_work 89 = .ok (.aload_n 0, 1) := dk_42 (dk_at dksX8_work_3 20 rfl rfl)
theorem dX8_work_90 : decode cX8_work 90 = .ok (.iconst 0, 1) := dk_3 (dk_at dksX8_work_3 21 rfl rfl)
theorem dX8_work_91 : decode cX8_work 91 = .ok (.invokevirtual 242, 3) := dk_182 0 242 (dk_at dksX8_work_4 0 rfl rfl)
theorem dX8_work_94 : decode cX8_work 94 = .ok (.istore_n 2, 1) := dk_61 (dk_at dksX8_work_4 3 rfl rfl)
theorem dX8_work_95 : decode cX8_work 95 = .ok (.aload_n 0, 1) := dk_42 (dk_at dksX8_work_4 4 rfl rfl)
theorem dX8_work_96 : decode cX8_work 96 = .ok (.getfield 127, 3) := dk_180 0 127 (dk_at dksX8_work_4 5 rfl rfl)
theorem dX8_work_99 : decode cX8_work 99 = .ok (.iconst (-1), 1) := dk_2 (dk_at dksX8_work_4 8 rfl rfl)
theorem dX8_work_100 : decode cX8_work 100 = .ok (.if_icmp .eq 5, 3) := dk_159 0 5 (dk_at dksX8_work_4 9 rfl rfl)
theorem dX8_work_103 : decode cX8_work 103 = .ok (.iload_n 2, 1) := dk_28 (dk_at dksX8_work_4 12 rfl rfl)
theorem dX8_work_104 : decode cX8_work 104 = .ok (.ireturn, 1) := dk_172 (dk_at dksX8_work_4 13 rfl rfl)
theorem dX8_work_105 : decode cX8_work 105 = .ok (.aload_n 0, 1) := dk_42 (dk_at dksX8_work_4 14 rfl rfl)
theorem dX8_work_106 : decode cX8_work 106 = .ok (.aload_n 0, 1) := dk_42 (dk_at dksX8_work_4 15 rfl rfl)
theorem dX8_work_107 : decode cX8_work 107 = .ok (.getfield 65, 3) := dk_180 0 65 (dk_at dksX8_work_4 16 rfl rfl)
theorem dX8_work_110 : decode cX8_work 110 = .ok (.aload_n 0, 1) := dk_42 (dk_at dksX8_work_4 19 rfl rfl)
theorem dX8_work_111 : decode cX8_work 111 = .ok (.getfield 68, 3) := dk_180 0 68 (dk_at dksX8_work_4 20 rfl rfl)
theorem dX8_work_114 : decode cX8_work 114 = .ok (.aload_n 0, 1) := dk_42 (dk_at dksX8_work_4 23 rfl rfl)
theorem dX8_work_115 : decode cX8_work 115 = .ok (.getfield 291, 3) := dk_180 1 35 (dk_at dksX8_work_5 0 rfl rfl)
theorem dX8_work_118 : decode cX8_work 118 = .ok (.invokevirtual 182, 3) := dk_182 0 182 (dk_at dksX8_work_5 3 rfl rfl)
theorem dX8_work_121 : decode cX8_work 121 = .ok (.iconst 0, 1) := dk_3 (dk_at dksX8_work_5 6 rfl rfl)
theorem dX8_work_122 : decode cX8_work 122 = .ok (.istore_n 3, 1) := dk_62 (dk_at dksX8_work_5 7 rfl rfl)
theorem dX8_work_123 : decode cX8_work 123 = .ok (.iload_n 3, 1) := dk_29 (dk_at dksX8_work_5 8 rfl rfl)
theorem dX8_work_124 : decode cX8_work 124 = .ok (.bipush 50, 2) := dk_16 50 (dk_at dksX8_work_5 9 rfl rfl)
theorem dX8_work_126 : decode cX8_work 126 = .ok (.if_icmp .ge 29, 3) := dk_162 0 29 (dk_at dksX8_work_5 11 rfl rfl)
theorem dX8_work_129 : decode cX8_work 129 = .ok (.aload_n 0, 1) := dk_42 (dk_at dksX8_work_5 14 rfl rfl)
theorem dX8_work_130 : decode cX8_work 130 = .ok (.getfield 77, 3) := dk_180 0 77 (dk_at dksX8_work_5 15 rfl rfl)
theorem dX8_work_133 : decode cX8_work 133 = .ok (.bipush 50, 2) := dk_16 50 (dk_at dksX8_work_5 18 rfl rfl)
theorem dX8_work_135 : decode cX8_work 135 = .ok (.aload_n 0, 1) := dk_42 (dk_at dksX8_work_5 20 rfl rfl)
theorem dX8_work_136 : decode cX8_work 136 = .ok (.getfield 192, 3) := dk_180 0 192 (dk_at dksX8_work_5 21 rfl rfl)
theorem dX8_work_139 : decode cX8_work 139 = .ok (.imul, 1) := dk_104 (dk_at dksX8_work_6 0 rfl rfl)
theorem dX8_work_140 : decode cX8_work 140 = .ok (.iload_n 3, 1) := dk_29 (dk_at dksX8_work_6 1 rfl rfl)
theorem dX8_work_141 : decode cX8_work 141 = .ok (.iadd, 1) := dk_96 (dk_at dksX8_work_6 2 rfl rfl)
theorem dX8_work_142 : decode cX8_work 142 = .ok (.aload_n 0, 1) := dk_42 (dk_at dksX8_work_6 3 rfl rfl)
theorem dX8_work_143 : decode cX8_work 143 = .ok (.getfield 71, 3) := dk_180 0 71 (dk_at dksX8_work_6 4 rfl rfl)
theorem dX8_work_146 : decode cX8_work 146 = .ok (.iload_n 3, 1) := dk_29 (dk_at dksX8_work_6 7 rfl rfl)
theorem dX8_work_147 : decode cX8_work 147 = .ok (.iaload, 1) := dk_46 (dk_at dksX8_work_6 8 rfl rfl)
theorem dX8_work_148 : decode cX8_work 148 = .ok (.iastore, 1) := dk_79 (dk_at dksX8_work_6 9 rfl rfl)
theorem dX8_work_149 : decode cX8_work 149 = .ok (.iinc 3 1, 3) := dk_132 3 1 (dk_at dksX8_work_6 10 rfl rfl)
theorem dX8_work_152 : decode cX8_work 152 = .ok (.goto (-29), 3) := dk_167 255 227 (dk_at dksX8_work_6 13 rfl rfl)
theorem dX8_work_155 : decode cX8_work 155 = .ok (.aload_n 0, 1) := dk_42 (dk_at dksX8_work_6 16 rfl rfl)
theorem dX8_work_156 : decode cX8_work 156 = .ok (.dup, 1) := dk_89 (dk_at dksX8_work_6 17 rfl rfl)
theorem dX8_work_157 : decode cX8_work 157 = .ok (.getfield 192, 3) := dk_180 0 192 (dk_at dksX8_work_6 18 rfl rfl)
theorem dX8_work_160 : decode cX8_work 160 = .ok (.iconst 1, 1) := dk_4 (dk_at dksX8_work_6 21 rfl rfl)
theorem dX8_work_161 : decode cX8_work 161 = .ok (.iadd, 1) := dk_96 (dk_at dksX8_work_6 22 rfl rfl)
theorem dX8_work_162 : decode cX8_work 162 = .ok (.putfield 192, 3) := dk_181 0 192 (dk_at dksX8_work_7 0 rfl rfl)
theorem dX8_work_165 : decode cX8_work 165 = .ok (.aload_n 0, 1) := dk_42 (dk_at dksX8_work_7 3 rfl rfl)
theorem dX8_work_166 : decode cX8_work 166 = .ok (.invokevirtual 315, 3) := dk_182 1 59 (dk_at dksX8_work_7 4 rfl rfl)
theorem dX8_work_169 : decode cX8_work 169 = .ok (.aload_n 0, 1) := dk_42 (dk_at dksX8_work_7 7 rfl rfl)
theorem dX8_work_170 : decode cX8_work 170 = .ok (.iconst 0, 1) := dk_3 (dk_at dksX8_work_7 8 rfl rfl)
theorem dX8_work_171 : decode cX8_work 171 = .ok (.putfield 318, 3) := dk_181 1 62 (dk_at dksX8_work_7 9 rfl rfl)
theorem dX8_work_174 : decode cX8_work 174 = .ok (.aload_n 0, 1) := dk_42 (dk_at dksX8_work_7 12 rfl rfl)
theorem dX8_work_175 : decode cX8_work 175 = .ok (.iconst 0, 1) := dk_3 (dk_at dksX8_work_7 13 rfl rfl)
theorem dX8_work_176 : decode cX8_work 176 = .ok (.putfield 321, 3) := dk_181 1 65 (dk_at dksX8_work_7 14 rfl rfl)
theorem dX8_work_179 : decode cX8_work 179 = .ok (.aload_n 0, 1) := dk_42 (dk_at dksX8_work_7 17 rfl rfl)
theorem dX8_work_180 : decode cX8_work 180 = .ok (.iconst 0, 1) := dk_3 (dk_at dksX8_work_7 18 rfl rfl)
theorem dX8_work_181 : decode cX8_work 181 = .ok (.putfield 324, 3) := dk_181 1 68 (dk_at dksX8_work_7 19 rfl rfl)
theorem dX8_work_184 : decode cX8_work 184 = .ok (.aload_n 0, 1) := dk_42 (dk_at dksX8_work_7 22 rfl rfl)
theorem dX8_work_185 : decode cX8_work 185 = .ok (.iconst 0, 1) := dk_3 (dk_at dksX8_work_7 23 rfl rfl)
theorem dX8_work_186 : decode cX8_work 186 = .ok (.aload_n 0, 1) := dk_42 (dk_at dksX8_work_8 0 rfl rfl)
theorem dX8_work_187 : decode cX8_work 187 = .ok (.getfield 291, 3) := dk_180 1 35 (dk_at dksX8_work_8 1 rfl rfl)
theorem dX8_work_190 : decode cX8_work 190 = .ok (.invokevirtual 327, 3) := dk_182 1 71 (dk_at dksX8_work_8 4 rfl rfl)
theorem dX8_work_193 : decode cX8_work 193 = .ok (.aload_n 0, 1) := dk_42 (dk_at dksX8_work_8 7 rfl rfl)
theorem dX8_work_194 : decode cX8_work 194 = .ok (.aload_n 0, 1) := dk_42 (dk_at dksX8_work_8 8 rfl rfl)
theorem dX8_work_195 : decode cX8_work 195 = .ok (.getfield 74, 3) := dk_180 0 74 (dk_at dksX8_work_8 9 rfl rfl)
theorem dX8_work_198 : decode cX8_work 198 = .ok (.aload_n 0, 1) := dk_42 (dk_at dksX8_work_8 12 rfl rfl)
theorem dX8_work_199 : decode cX8_work 199 = .ok (.getfield 71, 3) := dk_180 0 71 (dk_at dksX8_work_8 13 rfl rfl)
theorem dX8_work_202 : decode cX8_work 202 = .ok (.bipush 50, 2) := dk_16 50 (dk_at dksX8_work_8 16 rfl rfl)
theorem dX8_work_204 : decode cX8_work 204 = .ok (.invokevirtual 182, 3) := dk_182 0 182 (dk_at dksX8_work_8 18 rfl rfl)
theorem dX8_work_207 : decode cX8_work 207 = .ok (.aload_n 0, 1) := dk_42 (dk_at dksX8_work_8 21 rfl rfl)
theorem dX8_work_208 : decode cX8_work 208 = .ok (.aload_n 0, 1) := dk_42 (dk_at dksX8_work_8 22 rfl rfl)
theorem dX8_work_209 : decode cX8_work 209 = .ok (.getfield 324, 3) := dk_180 1 68 (dk_at dksX8_work_9 0 rfl rfl)
theorem dX8_work_212 : decode cX8_work 212 = .ok (.putfield 198, 3) := dk_181 0 198 (dk_at dksX8_work_9 3 rfl rfl)
theorem dX8_work_215 : decode cX8_work 215 = .ok (.aload_n 0, 1) := dk_42 (dk_at dksX8_work_9 6 rfl rfl)
theorem dX8_work_216 : decode cX8_work 216 = .ok (.getfield 321, 3) := dk_180 1 65 (dk_at dksX8_work_9 7 rfl rfl)
theorem dX8_work_219 : decode cX8_work 219 = .ok (.ireturn, 1) := dk_172 (dk_at dksX8_work_9 10 rfl rfl)
abbrev cX8_readStep : ByteArray := prog_24_method_39_code
def yX8_readStep : MethodName := ⟨RX8, "readStep", "()V"⟩
def dkwX8_readStep_14 : List UInt8 := [180, 0, 133, 182, 0, 163, 42, 16, 59, 182, 0, 239, 177]
abbrev dktX8_readStep_14 : List UInt8 := dkwX8_readStep_14 ++ []
def dkwX8_readStep_13 : List UInt8 := [182, 0, 156, 153, 0, 15, 42, 180, 0, 65, 29, 5, 96, 42, 180, 1, 35, 79, 167, 0, 12, 42, 4, 42]
abbrev dktX8_readStep_13 : List UInt8 := dkwX8_readStep_13 ++ dktX8_readStep_14
def dkwX8_readStep_12 : List UInt8 := [42, 182, 1, 56, 167, 255, 236, 42, 16, 93, 182, 0, 239, 42, 89, 180, 0, 167, 4, 100, 181, 0, 167, 42]
abbrev dktX8_readStep_12 : List UInt8 := dkwX8_readStep_12 ++ dktX8_readStep_13
def dkwX8_readStep_11 : List UInt8 := [42, 16, 7, 28, 3, 182, 1, 38, 42, 182, 0, 156, 153, 0, 19, 42, 182, 0, 139, 16, 93, 159, 0, 10]
abbrev dktX8_readStep_11 : List UInt8 := dkwX8_readStep_11 ++ dktX8_readStep_12
def dkwX8_readStep_10 : List UInt8 := [42, 8, 182, 1, 2, 42, 3, 16, 30, 182, 0, 201, 61, 42, 16, 91, 182, 0, 239, 42, 180, 1, 35, 62]
abbrev dktX8_readStep_10 : List UInt8 := dkwX8_readStep_10 ++ dktX8_readStep_11
def dkwX8_readStep_9 : List UInt8 := [28, 42, 4, 16, 9, 182, 0, 201, 182, 1, 38, 167, 0, 115, 27, 19, 1, 54, 184, 0, 206, 160, 0, 96]
abbrev dktX8_readStep_9 : List UInt8 := dkwX8_readStep_9 ++ dktX8_readStep_10
def dkwX8_readStep_8 : List UInt8 := [184, 0, 206, 160, 0, 35, 42, 182, 0, 233, 42, 3, 42, 180, 0, 176, 4, 100, 182, 0, 201, 61, 42, 6]
abbrev dktX8_readStep_8 : List UInt8 := dkwX8_readStep_8 ++ dktX8_readStep_9
def dkwX8_readStep_7 : List UInt8 := [42, 182, 0, 233, 42, 5, 42, 3, 16, 9, 182, 0, 201, 3, 182, 1, 38, 167, 0, 157, 27, 19, 1, 52]
abbrev dktX8_readStep_7 : List UInt8 := dkwX8_readStep_7 ++ dktX8_readStep_8
def dkwX8_readStep_6 : List UInt8 := [28, 42, 3, 16, 9, 182, 0, 201, 182, 1, 38, 167, 0, 187, 27, 19, 1, 50, 184, 0, 206, 160, 0, 23]
abbrev dktX8_readStep_6 : List UInt8 := dkwX8_readStep_6 ++ dktX8_readStep_7
def dkwX8_readStep_5 : List UInt8 := [184, 0, 206, 160, 0, 35, 42, 182, 0, 233, 42, 3, 42, 180, 0, 179, 4, 100, 182, 0, 201, 61, 42, 4]
abbrev dktX8_readStep_5 : List UInt8 := dkwX8_readStep_5 ++ dktX8_readStep_6
def dkwX8_readStep_4 : List UInt8 := [8, 42, 3, 42, 180, 0, 179, 4, 100, 182, 0, 201, 3, 182, 1, 38, 167, 0, 229, 27, 19, 1, 48]
abbrev dktX8_readStep_4 : List UInt8 := dkwX8_readStep_4 ++ dktX8_readStep_5
def dkwX8_readStep_3 : List UInt8 := [184, 0, 206, 160, 0, 7, 3, 167, 0, 18, 27, 19, 1, 44, 184, 0, 206, 160, 0, 7, 7, 167, 0, 4]
abbrev dktX8_readStep_3 : List UInt8 := dkwX8_readStep_3 ++ dktX8_readStep_4
def dkwX8_readStep_2 : List UInt8 := [159, 0, 13, 27, 19, 1, 46, 184, 0, 206, 160, 0, 55, 42, 182, 0, 233, 42, 27, 19, 1, 42]
abbrev dktX8_readStep_2 : List UInt8 := dkwX8_readStep_2 ++ dktX8_readStep_3
def dkwX8_readStep_1 : List UInt8 := [182, 1, 38, 167, 1, 55, 27, 19, 1, 42, 184, 0, 206, 159, 0, 23, 27, 19, 1, 44, 184, 0, 206]
abbrev dktX8_readStep_1 : List UInt8 := dkwX8_readStep_1 ++ dktX8_readStep_2
def dkwX8_readStep_0 : List UInt8 := [42, 182, 0, 227, 60, 27, 19, 1, 14, 184, 0, 206, 160, 0, 18, 42, 182, 0, 233, 42, 16, 6, 3, 3]
abbrev dktX8_readStep_0 : List UInt8 := dkwX8_readStep_0 ++ dktX8_readStep_1
theorem dksX8_readStep_0 : cX8_readStep.data.toList.drop 0 = dktX8_readStep_0 := by decide +kernel
theorem dksX8_readStep_1 : cX8_readStep.data.toList.drop 24 = dktX8_readStep_1 := dk_seg dksX8_readStep_0 24 rfl rfl
theorem dksX8_readStep_2 : cX8_readStep.data.toList.drop 47 = dktX8_readStep_2 := dk_seg dksX8_readStep_1 23 rfl rfl
theorem dksX8_readStep_3 : cX8_readStep.data.toList.drop 69 = dktX8_readStep_3 := dk_seg dksX8_readStep_2 22 rfl rfl
theorem dksX8_readStep_4 : cX8_readStep.data.toList.drop 93 = dktX8_readStep_4 := dk_seg dksX8_readStep_3 24 rfl rfl
theorem dksX8_readStep_5 : cX8_readStep.data.toList.drop 116 = dktX8_readStep_5 := dk_seg dksX8_readStep_4 23 rfl rfl
theorem dksX8_readStep_6 : cX8_readStep.data.toList.drop 140 = dktX8_readStep_6 := dk_seg dksX8_readStep_5 24 rfl rfl
theorem dksX8_readStep_7 : cX8_readStep.data.toList.drop 164 = dktX8_readStep_7 := dk_seg dksX8_readStep_6 24 rfl rfl
theorem dksX8_readStep_8 : cX8_readStep.data.toList.drop 188 = dktX8_readStep_8 := dk_seg dksX8_readStep_7 24 rfl rfl
theorem dksX8_readStep_9 : cX8_readStep.data.toList.drop 212 = dktX8_readStep_9 := dk_seg dksX8_readStep_8 24 rfl rfl
theorem dksX8_readStep_10 : cX8_readStep.data.toList.drop 236 = dktX8_readStep_10 := dk_seg dksX8_readStep_9 24 rfl rfl
theorem dksX8_readStep_11 : cX8_readStep.data.toList.drop 260 = dktX8_readStep_11 := dk_seg dksX8_readStep_10 24 rfl rfl
theorem dksX8_readStep_12 : cX8_readStep.data.toList.drop 284 = dktX8_readStep_12 := dk_seg dksX8_readStep_11 24 rfl rfl
theorem dksX8_readStep_13 : cX8_readStep.data.toList.drop 308 = dktX8_readStep_13 := dk_seg dksX8_readStep_12 24 rfl rfl
theorem dksX8_readStep_14 : cX8_readStep.data.toList.drop 332 = dktX8_readStep_14 := dk_seg dksX8_readStep_13 24 rfl rfl
theorem dX8_readStep_0 : decode cX8_readStep 0 = .ok (.aload_n 0, 1) := dk_42 (dk_at dksX8_readStep_0 0 rfl rfl)
theorem dX8_readStep_1 : decode cX8_readStep 1 = .ok (.invokevirtual 227, 3) := dk_182 0 227 (dk_at dksX8_readStep_0 1 rfl rfl)
theorem dX8_readStep_4 : decode cX8_readStep 4 = .ok (.istore_n 1, 1) := dk_60 (dk_at dksX8_readStep_0 4 rfl rfl)
theorem dX8_readStep_5 : decode cX8_readStep 5 = .ok (.iload_n 1, 1) := dk_27 (dk_at dksX8_readStep_0 5 rfl rfl)
theorem dX8_readStep_6 : decode cX8_readStep 6 = .ok (.ldc_w 270, 3) := dk_19 1 14 (dk_at dksX8_readStep_0 6 rfl rfl)
theorem dX8_readStep_9 : decode cX8_readStep 9 = .ok (.invokestatic 206, 3) := dk_184 0 206 (dk_at dksX8_readStep_0 9 rfl rfl)
theorem dX8_readStep_12 : decode cX8_readStep 12 = .ok (.if_icmp .ne 18, 3) := dk_160 0 18 (dk_at dksX8_readStep_0 12 rfl rfl)
theorem dX8_readStep_15 : decode cX8_readStep 15 = .ok (.aload_n 0, 1) := dk_42 (dk_at dksX8_readStep_0 15 rfl rfl)
theorem dX8_readStep_16 : decode cX8_readStep 16 = .ok (.invokevirtual 233, 3) := dk_182 0 233 (dk_at dksX8_readStep_0 16 rfl rfl)
theorem dX8_readStep_19 : decode cX8_readStep 19 = .ok (.aload_n 0, 1) := dk_42 (dk_at dksX8_readStep_0 19 rfl rfl)
theorem dX8_readStep_20 : decode cX8_readStep 20 = .ok (.bipush 6, 2) := dk_16 6 (dk_at dksX8_readStep_0 20 rfl rfl)
theorem dX8_readStep_22 : decode cX8_readStep 22 = .ok (.iconst 0, 1) := dk_3 (dk_at dksX8_readStep_0 22 rfl rfl)
theorem dX8_readStep_23 : decode cX8_readStep 23 = .ok (.iconst 0, 1) := dk_3 (dk_at dksX8_readStep_0 23 rfl rfl)
theorem dX8_readStep_24 : decode cX8_readStep 24 = .ok (.invokevirtual 294, 3) := dk_182 1 38 (dk_at dksX8_readStep_1 0 rfl rfl)
theorem dX8_readStep_27 : decode cX8_readStep 27 = .ok (.goto 311, 3) := dk_167 1 55 (dk_at dksX8_readStep_1 3 rfl rfl)
theorem dX8_readStep_30 : decode cX8_readStep 30 = .ok (.iload_n 1, 1) := dk_27 (dk_at dksX8_readStep_1 6 rfl rfl)
theorem dX8_readStep_31 : decode cX8_readStep 31 = .ok (.ldc_w 298, 3) := dk_19 1 42 (dk_at dksX8_readStep_1 7 rfl rfl)
theorem dX8_readStep_34 : decode cX8_readStep 34 = .ok (.invokestatic 206, 3) := dk_184 0 206 (dk_at dksX8_readStep_1 10 rfl rfl)
theorem dX8_readStep_37 : decode cX8_readStep 37 = .ok (.if_icmp .eq 23, 3) := dk_159 0 23 (dk_at dksX8_readStep_1 13 rfl rfl)
theorem dX8_readStep_40 : decode cX8_readStep 40 = .ok (.iload_n 1, 1) := dk_27 (dk_at dksX8_readStep_1 16 rfl rfl)
theorem dX8_readStep_41 : decode cX8_readStep 41 = .ok (.ldc_w 300, 3) := dk_19 1 44 (dk_at dksX8_readStep_1 17 rfl rfl)
theorem dX8_readStep_44 : decode cX8_readStep 44 = .ok (.invokestatic 206, 3) := dk_184 0 206 (dk_at dksX8_readStep_1 20 rfl rfl)
theorem dX8_readStep_47 : decode cX8_readStep 47 = .ok (.if_icmp .eq 13, 3) := dk_159 0 13 (dk_at dksX8_readStep_2 0 rfl rfl)
theorem dX8_readStep_50 : decode cX8_readStep 50 = .ok (.iload_n 1, 1) := dk_27 (dk_at dksX8_readStep_2 3 rfl rfl)
theorem dX8_readStep_51 : decode cX8_readStep 51 = .ok (.ldc_w 302, 3) := dk_19 1 46 (dk_at dksX8_readStep_2 4 rfl rfl)
theorem dX8_readStep_54 : decode cX8_readStep 54 = .ok (.invokestatic 206, 3) := dk_184 0 206 (dk_at dksX8_readStep_2 7 rfl rfl)
theorem dX8_readStep_57 : decode cX8_readStep 57 = .ok (.if_icmp .ne 55, 3) := dk_160 0 55 (dk_at dksX8_readStep_2 10 rfl rfl)
theorem dX8_readStep_60 : decode cX8_readStep 60 = .ok (.aload_n 0, 1) := dk_42 (dk_at dksX8_readStep_2 13 rfl rfl)
theorem dX8_readStep_61 : decode cX8_readStep 61 = .ok (.invokevirtual 233, 3) := dk_182 0 233 (dk_at dksX8_readStep_2 14 rfl rfl)
theorem dX8_readStep_64 : decode cX8_readStep 64 = .ok (.aload_n 0, 1) := dk_42 (dk_at dksX8_readStep_2 17 rfl rfl)
theorem dX8_readStep_65 : decode cX8_readStep 65 = .ok (.iload_n 1, 1) := dk_27 (dk_at dksX8_readStep_2 18 rfl rfl)
theorem dX8_readStep_66 : decode cX8_readStep 66 = .ok (.ldc_w 298, 3) := dk_19 1 42 (dk_at dksX8_readStep_2 19 rfl rfl)
theorem dX8_readStep_69 : decode cX8_readStep 69 = .ok (.invokestatic 206, 3) := dk_184 0 206 (dk_at dksX8_readStep_3 0 rfl rfl)
theorem dX8_readStep_72 : decode cX8_readStep 72 = .ok (.if_icmp .ne 7, 3) := dk_160 0 7 (dk_at dksX8_readStep_3 3 rfl rfl)
theorem dX8_readStep_75 : decode cX8_readStep 75 = .ok (.iconst 0, 1) := dk_3 (dk_at dksX8_readStep_3 6 rfl rfl)
theorem dX8_readStep_76 : decode cX8_readStep 76 = .ok (.goto 18, 3) := dk_167 0 18 (dk_at dksX8_readStep_3 7 rfl rfl)
theorem dX8_readStep_79 : decode cX8_readStep 79 = .ok (.iload_n 1, 1) := dk_27 (dk_at dksX8_readStep_3 10 rfl rfl)
theorem dX8_readStep_80 : decode cX8_readStep 80 = .ok (.ldc_w 300, 3) := dk_19 1 44 (dk_at dksX8_readStep_3 11 rfl rfl)
theorem dX8_readStep_83 : decode cX8_readStep 83 = .ok (.invokestatic 206, 3) := dk_184 0 206 (dk_at dksX8_readStep_3 14 rfl rfl)
theorem dX8_readStep_86 : decode cX8_readStep 86 = .ok (.if_icmp .ne 7, 3) := dk_160 0 7 (dk_at dksX8_readStep_3 17 rfl rfl)
theorem dX8_readStep_89 : decode cX8_readStep 89 = .ok (.iconst 4, 1) := dk_7 (dk_at dksX8_readStep_3 20 rfl rfl)
theorem dX8_readStep_90 : decode cX8_readStep 90 = .ok (.goto 4, 3) := dk_167 0 4 (dk_at dksX8_readStep_3 21 rfl rfl)
theorem dX8_readStep_93 : decode cX8_readStep 93 = .ok (.iconst 5, 1) := dk_8 (dk_at dksX8_readStep_4 0 rfl rfl)
theorem dX8_readStep_94 : decode cX8_readStep 94 = .ok (.aload_n 0, 1) := dk_42 (dk_at dksX8_readStep_4 1 rfl rfl)
theorem dX8_readStep_95 : decode cX8_readStep 95 = .ok (.iconst 0, 1) := dk_3 (dk_at dksX8_readStep_4 2 rfl rfl)
theorem dX8_readStep_96 : decode cX8_readStep 96 = .ok (.aload_n 0, 1) := dk_42 (dk_at dksX8_readStep_4 3 rfl rfl)
theorem dX8_readStep_97 : decode cX8_readStep 97 = .ok (.getfield 179, 3) := dk_180 0 179 (dk_at dksX8_readStep_4 4 rfl rfl)
theorem dX8_readStep_100 : decode cX8_readStep 100 = .ok (.iconst 1, 1) := dk_4 (dk_at dksX8_readStep_4 7 rfl rfl)
theorem dX8_readStep_101 : decode cX8_readStep 101 = .ok (.isub, 1) := dk_100 (dk_at dksX8_readStep_4 8 rfl rfl)
theorem dX8_readStep_102 : decode cX8_readStep 102 = .ok (.invokevirtual 201, 3) := dk_182 0 201 (dk_at dksX8_readStep_4 9 rfl rfl)
theorem dX8_readStep_105 : decode cX8_readStep 105 = .ok (.iconst 0, 1) := dk_3 (dk_at dksX8_readStep_4 12 rfl rfl)
theorem dX8_readStep_106 : decode cX8_readStep 106 = .ok (.invokevirtual 294, 3) := dk_182 1 38 (dk_at dksX8_readStep_4 13 rfl rfl)
theorem dX8_readStep_109 : decode cX8_readStep 109 = .ok (.goto 229, 3) := dk_167 0 229 (dk_at dksX8_readStep_4 16 rfl rfl)
theorem dX8_readStep_112 : decode cX8_readStep 112 = .ok (.iload_n 1, 1) := dk_27 (dk_at dksX8_readStep_4 19 rfl rfl)
theorem dX8_readStep_113 : decode cX8_readStep 113 = .ok (.ldc_w 304, 3) := dk_19 1 48 (dk_at dksX8_readStep_4 20 rfl rfl)
theorem dX8_readStep_116 : decode cX8_readStep 116 = .ok (.invokestatic 206, 3) := dk_184 0 206 (dk_at dksX8_readStep_5 0 rfl rfl)
theorem dX8_readStep_119 : decode cX8_readStep 119 = .ok (.if_icmp .ne 35, 3) := dk_160 0 35 (dk_at dksX8_readStep_5 3 rfl rfl)
theorem dX8_readStep_122 : decode cX8_readStep 122 = .ok (.aload_n 0, 1) := dk_42 (dk_at dksX8_readStep_5 6 rfl rfl)
theorem dX8_readStep_123 : decode cX8_readStep 123 = .ok (.invokevirtual 233, 3) := dk_182 0 233 (dk_at dksX8_readStep_5 7 rfl rfl)
theorem dX8_readStep_126 : decode cX8_readStep 126 = .ok (.aload_n 0, 1) := dk_42 (dk_at dksX8_readStep_5 10 rfl rfl)
theorem dX8_readStep_127 : decode cX8_readStep 127 = .ok (.iconst 0, 1) := dk_3 (dk_at dksX8_readStep_5 11 rfl rfl)
theorem dX8_readStep_128 : decode cX8_readStep 128 = .ok (.aload_n 0, 1) := dk_42 (dk_at dksX8_readStep_5 12 rfl rfl)
theorem dX8_readStep_129 : decode cX8_readStep 129 = .ok (.getfield 179, 3) := dk_180 0 179 (dk_at dksX8_readStep_5 13 rfl rfl)
theorem dX8_readStep_132 : decode cX8_readStep 132 = .ok (.iconst 1, 1) := dk_4 (dk_at dksX8_readStep_5 16 rfl rfl)
theorem dX8_readStep_133 : decode cX8_readStep 133 = .ok (.isub, 1) := dk_100 (dk_at dksX8_readStep_5 17 rfl rfl)
theorem dX8_readStep_134 : decode cX8_readStep 134 = .ok (.invokevirtual 201, 3) := dk_182 0 201 (dk_at dksX8_readStep_5 18 rfl rfl)
theorem dX8_readStep_137 : decode cX8_readStep 137 = .ok (.istore_n 2, 1) := dk_61 (dk_at dksX8_readStep_5 21 rfl rfl)
theorem dX8_readStep_138 : decode cX8_readStep 138 = .ok (.aload_n 0, 1) := dk_42 (dk_at dksX8_readStep_5 22 rfl rfl)
theorem dX8_readStep_139 : decode cX8_readStep 139 = .ok (.iconst 1, 1) := dk_4 (dk_at dksX8_readStep_5 23 rfl rfl)
theorem dX8_readStep_140 : decode cX8_readStep 140 = .ok (.iload_n 2, 1) := dk_28 (dk_at dksX8_readStep_6 0 rfl rfl)
theorem dX8_readStep_141 : decode cX8_readStep 141 = .ok (.aload_n 0, 1) := dk_42 (dk_at dksX8_readStep_6 1 rfl rfl)
theorem dX8_readStep_142 : decode cX8_readStep 142 = .ok (.iconst 0, 1) := dk_3 (dk_at dksX8_readStep_6 2 rfl rfl)
theorem dX8_readStep_143 : decode cX8_readStep 143 = .ok (.bipush 9, 2) := dk_16 9 (dk_at dksX8_readStep_6 3 rfl rfl)
theorem dX8_readStep_145 : decode cX8_readStep 145 = .ok (.invokevirtual 201, 3) := dk_182 0 201 (dk_at dksX8_readStep_6 5 rfl rfl)
theorem dX8_readStep_148 : decode cX8_readStep 148 = .ok (.invokevirtual 294, 3) := dk_182 1 38 (dk_at dksX8_readStep_6 8 rfl rfl)
theorem dX8_readStep_151 : decode cX8_readStep 151 = .ok (.goto 187, 3) := dk_167 0 187 (dk_at dksX8_readStep_6 11 rfl rfl)
theorem dX8_readStep_154 : decode cX8_readStep 154 = .ok (.iload_n 1, 1) := dk_27 (dk_at dksX8_readStep_6 14 rfl rfl)
theorem dX8_readStep_155 : decode cX8_readStep 155 = .ok (.ldc_w 306, 3) := dk_19 1 50 (dk_at dksX8_readStep_6 15 rfl rfl)
theorem dX8_readStep_158 : decode cX8_readStep 158 = .ok (.invokestatic 206, 3) := dk_184 0 206 (dk_at dksX8_readStep_6 18 rfl rfl)
theorem dX8_readStep_161 : decode cX8_readStep 161 = .ok (.if_icmp .ne 23, 3) := dk_160 0 23 (dk_at dksX8_readStep_6 21 rfl rfl)
theorem dX8_readStep_164 : decode cX8_readStep 164 = .ok (.aload_n 0, 1) := dk_42 (dk_at dksX8_readStep_7 0 rfl rfl)
theorem dX8_readStep_165 : decode cX8_readStep 165 = .ok (.invokevirtual 233, 3) := dk_182 0 233 (dk_at dksX8_readStep_7 1 rfl rfl)
theorem dX8_readStep_168 : decode cX8_readStep 168 = .ok (.aload_n 0, 1) := dk_42 (dk_at dksX8_readStep_7 4 rfl rfl)
theorem dX8_readStep_169 : decode cX8_readStep 169 = .ok (.iconst 2, 1) := dk_5 (dk_at dksX8_readStep_7 5 rfl rfl)
theorem dX8_readStep_170 : decode cX8_readStep 170 = .ok (.aload_n 0, 1) := dk_42 (dk_at dksX8_readStep_7 6 rfl rfl)
theorem dX8_readStep_171 : decode cX8_readStep 171 = .ok (.iconst 0, 1) := dk_3 (dk_at dksX8_readStep_7 7 rfl rfl)
theorem dX8_readStep_172 : decode cX8_readStep 172 = .ok (.bipush 9, 2) := dk_16 9 (dk_at dksX8_readStep_7 8 rfl rfl)
theorem dX8_readStep_174 : decode cX8_readStep 174 = .ok (.invokevirtual 201, 3) := dk_182 0 201 (dk_at dksX8_readStep_7 10 rfl rfl)
theorem dX8_readStep_177 : decode cX8_readStep 177 = .ok (.iconst 0, 1) := dk_3 (dk_at dksX8_readStep_7 13 rfl rfl)
theorem dX8_readStep_178 : decode cX8_readStep 178 = .ok (.invokevirtual 294, 3) := dk_182 1 38 (dk_at dksX8_readStep_7 14 rfl rfl)
theorem dX8_readStep_181 : decode cX8_readStep 181 = .ok (.goto 157, 3) := dk_167 0 157 (dk_at dksX8_readStep_7 17 rfl rfl)
theorem dX8_readStep_184 : decode cX8_readStep 184 = .ok (.iload_n 1, 1) := dk_27 (dk_at dksX8_readStep_7 20 rfl rfl)
theorem dX8_readStep_185 : decode cX8_readStep 185 = .ok (.ldc_w 308, 3) := dk_19 1 52 (dk_at dksX8_readStep_7 21 rfl rfl)
theorem dX8_readStep_188 : decode cX8_readStep 188 = .ok (.invokestatic 206, 3) := dk_184 0 206 (dk_at dksX8_readStep_8 0 rfl rfl)
theorem dX8_readStep_191 : decode cX8_readStep 191 = .ok (.if_icmp .ne 35, 3) := dk_160 0 35 (dk_at dksX8_readStep_8 3 rfl rfl)
theorem dX8_readStep_194 : decode cX8_readStep 194 = .ok (.aload_n 0, 1) := dk_42 (dk_at dksX8_readStep_8 6 rfl rfl)
theorem dX8_readStep_195 : decode cX8_readStep 195 = .ok (.invokevirtual 233, 3) := dk_182 0 233 (dk_at dksX8_readStep_8 7 rfl rfl)
theorem dX8_readStep_198 : decode cX8_readStep 198 = .ok (.aload_n 0, 1) := dk_42 (dk_at dksX8_readStep_8 10 rfl rfl)
theorem dX8_readStep_199 : decode cX8_readStep 199 = .ok (.iconst 0, 1) := dk_3 (dk_at dksX8_readStep_8 11 rfl rfl)
theorem dX8_readStep_200 : decode cX8_readStep 200 = .ok (.aload_n 0, 1) := dk_42 (dk_at dksX8_readStep_8 12 rfl rfl)
theorem dX8_readStep_201 : decode cX8_readStep 201 = .ok (.getfield 176, 3) := dk_180 0 176 (dk_at dksX8_readStep_8 13 rfl rfl)
theorem dX8_readStep_204 : decode cX8_readStep 204 = .ok (.iconst 1, 1) := dk_4 (dk_at dksX8_readStep_8 16 rfl rfl)
theorem dX8_readStep_205 : decode cX8_readStep 205 = .ok (.isub, 1) := dk_100 (dk_at dksX8_readStep_8 17 rfl rfl)
theorem dX8_readStep_206 : decode cX8_readStep 206 = .ok (.invokevirtual 201, 3) := dk_182 0 201 (dk_at dksX8_readStep_8 18 rfl rfl)
theorem dX8_readStep_209 : decode cX8_readStep 209 = .ok (.istore_n 2, 1) := dk_61 (dk_at dksX8_readStep_8 21 rfl rfl)
theorem dX8_readStep_210 : decode cX8_readStep 210 = .ok (.aload_n 0, 1) := dk_42 (dk_at dksX8_readStep_8 22 rfl rfl)
theorem dX8_readStep_211 : decode cX8_readStep 211 = .ok (.iconst 3, 1) := dk_6 (dk_at dksX8_readStep_8 23 rfl rfl)
theorem dX8_readStep_212 : decode cX8_readStep 212 = .ok (.iload_n 2, 1) := dk_28 (dk_at dksX8_readStep_9 0 rfl rfl)
theorem dX8_readStep_213 : decode cX8_readStep 213 = .ok (.aload_n 0, 1) := dk_42 (dk_at dksX8_readStep_9 1 rfl rfl)
theorem dX8_readStep_214 : decode cX8_readStep 214 = .ok (.iconst 1, 1) := dk_4 (dk_at dksX8_readStep_9 2 rfl rfl)
theorem dX8_readStep_215 : decode cX8_readStep 215 = .ok (.bipush 9, 2) := dk_16 9 (dk_at dksX8_readStep_9 3 rfl rfl)
theorem dX8_readStep_217 : decode cX8_readStep 217 = .ok (.invokevirtual 201, 3) := dk_182 0 201 (dk_at dksX8_readStep_9 5 rfl rfl)
theorem dX8_readStep_220 : decode cX8_readStep 220 = .ok (.invokevirtual 294, 3) := dk_182 1 38 (dk_at dksX8_readStep_9 8 rfl rfl)
theorem dX8_readStep_223 : decode cX8_readStep 223 = .ok (.goto 115, 3) := dk_167 0 115 (dk_at dksX8_readStep_9 11 rfl rfl)
theorem dX8_readStep_226 : decode cX8_readStep 226 = .ok (.iload_n 1, 1) := dk_27 (dk_at dksX8_readStep_9 14 rfl rfl)
theorem dX8_readStep_227 : decode cX8_readStep 227 = .ok (.ldc_w 310, 3) := dk_19 1 54 (dk_at dksX8_readStep_9 15 rfl rfl)
theorem dX8_readStep_230 : decode cX8_readStep 230 = .ok (.invokestatic 206, 3) := dk_184 0 206 (dk_at dksX8_readStep_9 18 rfl rfl)
theorem dX8_readStep_233 : decode cX8_readStep 233 = .ok (.if_icmp .ne 96, 3) := dk_160 0 96 (dk_at dksX8_readStep_9 21 rfl rfl)
theorem dX8_readStep_236 : decode cX8_readStep 236 = .ok (.aload_n 0, 1) := dk_42 (dk_at dksX8_readStep_10 0 rfl rfl)
theorem dX8_readStep_237 : decode cX8_readStep 237 = .ok (.iconst 5, 1) := dk_8 (dk_at dksX8_readStep_10 1 rfl rfl)
theorem dX8_readStep_238 : decode cX8_readStep 238 = .ok (.invokevirtual 258, 3) := dk_182 1 2 (dk_at dksX8_readStep_10 2 rfl rfl)
theorem dX8_readStep_241 : decode cX8_readStep 241 = .ok (.aload_n 0, 1) := dk_42 (dk_at dksX8_readStep_10 5 rfl rfl)
theorem dX8_readStep_242 : decode cX8_readStep 242 = .ok (.iconst 0, 1) := dk_3 (dk_at dksX8_readStep_10 6 rfl rfl)
theorem dX8_readStep_243 : decode cX8_readStep 243 = .ok (.bipush 30, 2) := dk_16 30 (dk_at dksX8_readStep_10 7 rfl rfl)
theorem dX8_readStep_245 : decode cX8_readStep 245 = .ok (.invokevirtual 201, 3) := dk_182 0 201 (dk_at dksX8_readStep_10 9 rfl rfl)
theorem dX8_readStep_248 : decode cX8_readStep 248 = .ok (.istore_n 2, 1) := dk_61 (dk_at dksX8_readStep_10 12 rfl rfl)
theorem dX8_readStep_249 : decode cX8_readStep 249 = .ok (.aload_n 0, 1) := dk_42 (dk_at dksX8_readStep_10 13 rfl rfl)
theorem dX8_readStep_250 : decode cX8_readStep 250 = .ok (.bipush 91, 2) := dk_16 91 (dk_at dksX8_readStep_10 14 rfl rfl)
theorem dX8_readStep_252 : decode cX8_readStep 252 = .ok (.invokevirtual 239, 3) := dk_182 0 239 (dk_at dksX8_readStep_10 16 rfl rfl)
theorem dX8_readStep_255 : decode cX8_readStep 255 = .ok (.aload_n 0, 1) := dk_42 (dk_at dksX8_readStep_10 19 rfl rfl)
theorem dX8_readStep_256 : decode cX8_readStep 256 = .ok (.getfield 291, 3) := dk_180 1 35 (dk_at dksX8_readStep_10 20 rfl rfl)
theorem dX8_readStep_259 : decode cX8_readStep 259 = .ok (.istore_n 3, 1) := dk_62 (dk_at dksX8_readStep_10 23 rfl rfl)
theorem dX8_readStep_260 : decode cX8_readStep 260 = .ok (.aload_n 0, 1) := dk_42 (dk_at dksX8_readStep_11 0 rfl rfl)
theorem dX8_readStep_261 : decode cX8_readStep 261 = .ok (.bipush 7, 2) := dk_16 7 (dk_at dksX8_readStep_11 1 rfl rfl)
theorem dX8_readStep_263 : decode cX8_readStep 263 = .ok (.iload_n 2, 1) := dk_28 (dk_at dksX8_readStep_11 3 rfl rfl)
theorem dX8_readStep_264 : decode cX8_readStep 264 = .ok (.iconst 0, 1) := dk_3 (dk_at dksX8_readStep_11 4 rfl rfl)
theorem dX8_readStep_265 : decode cX8_readStep 265 = .ok (.invokevirtual 294, 3) := dk_182 1 38 (dk_at dksX8_readStep_11 5 rfl rfl)
theorem dX8_readStep_268 : decode cX8_readStep 268 = .ok (.aload_n 0, 1) := dk_42 (dk_at dksX8_readStep_11 8 rfl rfl)
theorem dX8_readStep_269 : decode cX8_readStep 269 = .ok (.invokevirtual 156, 3) := dk_182 0 156 (dk_at dksX8_readStep_11 9 rfl rfl)
theorem dX8_readStep_272 : decode cX8_readStep 272 = .ok (.ifCond .eq 19, 3) := dk_153 0 19 (dk_at dksX8_readStep_11 12 rfl rfl)
theorem dX8_readStep_275 : decode cX8_readStep 275 = .ok (.aload_n 0, 1) := dk_42 (dk_at dksX8_readStep_11 15 rfl rfl)
theorem dX8_readStep_276 : decode cX8_readStep 276 = .ok (.invokevirtual 139, 3) := dk_182 0 139 (dk_at dksX8_readStep_11 16 rfl rfl)
theorem dX8_readStep_279 : decode cX8_readStep 279 = .ok (.bipush 93, 2) := dk_16 93 (dk_at dksX8_readStep_11 19 rfl rfl)
theorem dX8_readStep_281 : decode cX8_readStep 281 = .ok (.if_icmp .eq 10, 3) := dk_159 0 10 (dk_at dksX8_readStep_11 21 rfl rfl)
theorem dX8_readStep_284 : decode cX8_readStep 284 = .ok (.aload_n 0, 1) := dk_42 (dk_at dksX8_readStep_12 0 rfl rfl)
theorem dX8_readStep_285 : decode cX8_readStep 285 = .ok (.invokevirtual 312, 3) := dk_182 1 56 (dk_at dksX8_readStep_12 1 rfl rfl)
theorem dX8_readStep_288 : decode cX8_readStep 288 = .ok (.goto (-20), 3) := dk_167 255 236 (dk_at dksX8_readStep_12 4 rfl rfl)
theorem dX8_readStep_291 : decode cX8_readStep 291 = .ok (.aload_n 0, 1) := dk_42 (dk_at dksX8_readStep_12 7 rfl rfl)
theorem dX8_readStep_292 : decode cX8_readStep 292 = .ok (.bipush 93, 2) := dk_16 93 (dk_at dksX8_readStep_12 8 rfl rfl)
theorem dX8_readStep_294 : decode cX8_readStep 294 = .ok (.invokevirtual 239, 3) := dk_182 0 239 (dk_at dksX8_readStep_12 10 rfl rfl)
theorem dX8_readStep_297 : decode cX8_readStep 297 = .ok (.aload_n 0, 1) := dk_42 (dk_at dksX8_readStep_12 13 rfl rfl)
theorem dX8_readStep_298 : decode cX8_readStep 298 = .ok (.dup, 1) := dk_89 (dk_at dksX8_readStep_12 14 rfl rfl)
theorem dX8_readStep_299 : decode cX8_readStep 299 = .ok (.getfield 167, 3) := dk_180 0 167 (dk_at dksX8_readStep_12 15 rfl rfl)
theorem dX8_readStep_302 : decode cX8_readStep 302 = .ok (.iconst 1, 1) := dk_4 (dk_at dksX8_readStep_12 18 rfl rfl)
theorem dX8_readStep_303 : decode cX8_readStep 303 = .ok (.isub, 1) := dk_100 (dk_at dksX8_readStep_12 19 rfl rfl)
theorem dX8_readStep_304 : decode cX8_readStep 304 = .ok (.putfield 167, 3) := dk_181 0 167 (dk_at dksX8_readStep_12 20 rfl rfl)
theorem dX8_readStep_307 : decode cX8_readStep 307 = .ok (.aload_n 0, 1) := dk_42 (dk_at dksX8_readStep_12 23 rfl rfl)
theorem dX8_readStep_308 : decode cX8_readStep 308 = .ok (.invokevirtual 156, 3) := dk_182 0 156 (dk_at dksX8_readStep_13 0 rfl rfl)
theorem dX8_readStep_311 : decode cX8_readStep 311 = .ok (.ifCond .eq 15, 3) := dk_153 0 15 (dk_at dksX8_readStep_13 3 rfl rfl)
theorem dX8_readStep_314 : decode cX8_readStep 314 = .ok (.aload_n 0, 1) := dk_42 (dk_at dksX8_readStep_13 6 rfl rfl)
theorem dX8_readStep_315 : decode cX8_readStep 315 = .ok (.getfield 65, 3) := dk_180 0 65 (dk_at dksX8_readStep_13 7 rfl rfl)
theorem dX8_readStep_318 : decode cX8_readStep 318 = .ok (.iload_n 3, 1) := dk_29 (dk_at dksX8_readStep_13 10 rfl rfl)
theorem dX8_readStep_319 : decode cX8_readStep 319 = .ok (.iconst 2, 1) := dk_5 (dk_at dksX8_readStep_13 11 rfl rfl)
theorem dX8_readStep_320 : decode cX8_readStep 320 = .ok (.iadd, 1) := dk_96 (dk_at dksX8_readStep_13 12 rfl rfl)
theorem dX8_readStep_321 : decode cX8_readStep 321 = .ok (.aload_n 0, 1) := dk_42 (dk_at dksX8_readStep_13 13 rfl rfl)
theorem dX8_readStep_322 : decode cX8_readStep 322 = .ok (.getfield 291, 3) := dk_180 1 35 (dk_at dksX8_readStep_13 14 rfl rfl)
theorem dX8_readStep_325 : decode cX8_readStep 325 = .ok (.iastore, 1) := dk_79 (dk_at dksX8_readStep_13 17 rfl rfl)
theorem dX8_readStep_326 : decode cX8_readStep 326 = .ok (.goto 12, 3) := dk_167 0 12 (dk_at dksX8_readStep_13 18 rfl rfl)
theorem dX8_readStep_329 : decode cX8_readStep 329 = .ok (.aload_n 0, 1) := dk_42 (dk_at dksX8_readStep_13 21 rfl rfl)
theorem dX8_readStep_330 : decode cX8_readStep 330 = .ok (.iconst 1, 1) := dk_4 (dk_at dksX8_readStep_13 22 rfl rfl)
theorem dX8_readStep_331 : decode cX8_readStep 331 = .ok (.aload_n 0, 1) := dk_42 (dk_at dksX8_readStep_13 23 rfl rfl)
theorem dX8_readStep_332 : decode cX8_readStep 332 = .ok (.getfield 133, 3) := dk_180 0 133 (dk_at dksX8_readStep_14 0 rfl rfl)
theorem dX8_readStep_335 : decode cX8_readStep 335 = .ok (.invokevirtual 163, 3) := dk_182 0 163 (dk_at dksX8_readStep_14 3 rfl rfl)
theorem dX8_readStep_338 : decode cX8_readStep 338 = .ok (.aload_n 0, 1) := dk_42 (dk_at dksX8_readStep_14 6 rfl rfl)
theorem dX8_readStep_339 : decode cX8_readStep 339 = .ok (.bipush 59, 2) := dk_16 59 (dk_at dksX8_readStep_14 7 rfl rfl)
theorem dX8_readStep_341 : decode cX8_readStep 341 = .ok (.invokevirtual 239, 3) := dk_182 0 239 (dk_at dksX8_readStep_14 9 rfl rfl)
theorem dX8_readStep_344 : decode cX8_readStep 344 = .ok (.return_, 1) := dk_177 (dk_at dksX8_readStep_14 12 rfl rfl)
abbrev cX8_tellsStep : ByteArray := prog_24_method_38_code
def yX8_tellsStep : MethodName := ⟨RX8, "tellsStep", "(III)V"⟩
def dkwX8_tellsStep_2 : List UInt8 := [6, 96, 181, 1, 35, 177]
abbrev dktX8_tellsStep_2 : List UInt8 := dkwX8_tellsStep_2 ++ []
def dkwX8_tellsStep_1 : List UInt8 := [180, 1, 35, 4, 96, 28, 79, 42, 180, 0, 65, 42, 180, 1, 35, 5, 96, 29, 79, 42, 89, 180, 1, 35]
abbrev dktX8_tellsStep_1 : List UInt8 := dkwX8_tellsStep_1 ++ dktX8_tellsStep_2
def dkwX8_tellsStep_0 : List UInt8 := [42, 182, 0, 156, 154, 0, 4, 177, 42, 180, 0, 65, 42, 180, 1, 35, 27, 79, 42, 180, 0, 65, 42]
abbrev dktX8_tellsStep_0 : List UInt8 := dkwX8_tellsStep_0 ++ dktX8_tellsStep_1
theorem dksX8_tellsStep_0 : cX8_tellsStep.data.toList.drop 0 = dktX8_tellsStep_0 := by decide +kernel
theorem dksX8_tellsStep_1 : cX8_tellsStep.data.toList.drop 23 = dktX8_tellsStep_1 := dk_seg dksX8_tellsStep_0 23 rfl rfl
theorem dksX8_tellsStep_2 : cX8_tellsStep.data.toList.drop 47 = dktX8_tellsStep_2 := dk_seg dksX8_tellsStep_1 24 rfl rfl
theorem dX8_tellsStep_0 : decode cX8_tellsStep 0 = .ok (.aload_n 0, 1) := dk_42 (dk_at dksX8_tellsStep_0 0 rfl rfl)
theorem dX8_tellsStep_1 : decode cX8_tellsStep 1 = .ok (.invokevirtual 156, 3) := dk_182 0 156 (dk_at dksX8_tellsStep_0 1 rfl rfl)
theorem dX8_tellsStep_4 : decode cX8_tellsStep 4 = .ok (.ifCond .ne 4, 3) := dk_154 0 4 (dk_at dksX8_tellsStep_0 4 rfl rfl)
theorem dX8_tellsStep_7 : decode cX8_tellsStep 7 = .ok (.return_, 1) := dk_177 (dk_at dksX8_tellsStep_0 7 rfl rfl)
theorem dX8_tellsStep_8 : decode cX8_tellsStep 8 = .ok (.aload_n 0, 1) := dk_42 (dk_at dksX8_tellsStep_0 8 rfl rfl)
theorem dX8_tellsStep_9 : decode cX8_tellsStep 9 = .ok (.getfield 65, 3) := dk_180 0 65 (dk_at dksX8_tellsStep_0 9 rfl rfl)
theorem dX8_tellsStep_12 : decode cX8_tellsStep 12 = .ok (.aload_n 0, 1) := dk_42 (dk_at dksX8_tellsStep_0 12 rfl rfl)
theorem dX8_tellsStep_13 : decode cX8_tellsStep 13 = .ok (.getfield 291, 3) := dk_180 1 35 (dk_at dksX8_tellsStep_0 13 rfl rfl)
theorem dX8_tellsStep_16 : decode cX8_tellsStep 16 = .ok (.iload_n 1, 1) := dk_27 (dk_at dksX8_tellsStep_0 16 rfl rfl)
theorem dX8_tellsStep_17 : decode cX8_tellsStep 17 = .ok (.iastore, 1) := dk_79 (dk_at dksX8_tellsStep_0 17 rfl rfl)
theorem dX8_tellsStep_18 : decode cX8_tellsStep 18 = .ok (.aload_n 0, 1) := dk_42 (dk_at dksX8_tellsStep_0 18 rfl rfl)
theorem dX8_tellsStep_19 : decode cX8_tellsStep 19 = .ok (.getfield 65, 3) := dk_180 0 65 (dk_at dksX8_tellsStep_0 19 rfl rfl)
theorem dX8_tellsStep_22 : decode cX8_tellsStep 22 = .ok (.aload_n 0, 1) := dk_42 (dk_at dksX8_tellsStep_0 22 rfl rfl)
theorem dX8_tellsStep_23 : decode cX8_tellsStep 23 = .ok (.getfield 291, 3) := dk_180 1 35 (dk_at dksX8_tellsStep_1 0 rfl rfl)
theorem dX8_tellsStep_26 : decode cX8_tellsStep 26 = .ok (.iconst 1, 1) := dk_4 (dk_at dksX8_tellsStep_1 3 rfl rfl)
theorem dX8_tellsStep_27 : decode cX8_tellsStep 27 = .ok (.iadd, 1) := dk_96 (dk_at dksX8_tellsStep_1 4 rfl rfl)
theorem dX8_tellsStep_28 : decode cX8_tellsStep 28 = .ok (.iload_n 2, 1) := dk_28 (dk_at dksX8_tellsStep_1 5 rfl rfl)
theorem dX8_tellsStep_29 : decode cX8_tellsStep 29 = .ok (.iastore, 1) := dk_79 (dk_at dksX8_tellsStep_1 6 rfl rfl)
theorem dX8_tellsStep_30 : decode cX8_tellsStep 30 = .ok (.aload_n 0, 1) := dk_42 (dk_at dksX8_tellsStep_1 7 rfl rfl)
theorem dX8_tellsStep_31 : decode cX8_tellsStep 31 = .ok (.getfield 65, 3) := dk_180 0 65 (dk_at dksX8_tellsStep_1 8 rfl rfl)
theorem dX8_tellsStep_34 : decode cX8_tellsStep 34 = .ok (.aload_n 0, 1) := dk_42 (dk_at dksX8_tellsStep_1 11 rfl rfl)
theorem dX8_tellsStep_35 : decode cX8_tellsStep 35 = .ok (.getfield 291, 3) := dk_180 1 35 (dk_at dksX8_tellsStep_1 12 rfl rfl)
theorem dX8_tellsStep_38 : decode cX8_tellsStep 38 = .ok (.iconst 2, 1) := dk_5 (dk_at dksX8_tellsStep_1 15 rfl rfl)
theorem dX8_tellsStep_39 : decode cX8_tellsStep 39 = .ok (.iadd, 1) := dk_96 (dk_at dksX8_tellsStep_1 16 rfl rfl)
theorem dX8_tellsStep_40 : decode cX8_tellsStep 40 = .ok (.iload_n 3, 1) := dk_29 (dk_at dksX8_tellsStep_1 17 rfl rfl)
theorem dX8_tellsStep_41 : decode cX8_tellsStep 41 = .ok (.iastore, 1) := dk_79 (dk_at dksX8_tellsStep_1 18 rfl rfl)
theorem dX8_tellsStep_42 : decode cX8_tellsStep 42 = .ok (.aload_n 0, 1) := dk_42 (dk_at dksX8_tellsStep_1 19 rfl rfl)
theorem dX8_tellsStep_43 : decode cX8_tellsStep 43 = .ok (.dup, 1) := dk_89 (dk_at dksX8_tellsStep_1 20 rfl rfl)
theorem dX8_tellsStep_44 : decode cX8_tellsStep 44 = .ok (.getfield 291, 3) := dk_180 1 35 (dk_at dksX8_tellsStep_1 21 rfl rfl)
theorem dX8_tellsStep_47 : decode cX8_tellsStep 47 = .ok (.iconst 3, 1) := dk_6 (dk_at dksX8_tellsStep_2 0 rfl rfl)
theorem dX8_tellsStep_48 : decode cX8_tellsStep 48 = .ok (.iadd, 1) := dk_96 (dk_at dksX8_tellsStep_2 1 rfl rfl)
theorem dX8_tellsStep_49 : decode cX8_tellsStep 49 = .ok (.putfield 291, 3) := dk_181 1 35 (dk_at dksX8_tellsStep_2 2 rfl rfl)
theorem dX8_tellsStep_52 : decode cX8_tellsStep 52 = .ok (.return_, 1) := dk_177 (dk_at dksX8_tellsStep_2 5 rfl rfl)
abbrev cX8_take : ByteArray := prog_24_method_42_code
def yX8_take : MethodName := ⟨RX8, "take", "()V"⟩
def dkwX8_take_0 : List UInt8 := [42, 42, 180, 0, 71, 42, 180, 0, 74, 16, 50, 182, 0, 182, 177]
abbrev dktX8_take_0 : List UInt8 := dkwX8_take_0 ++ []
theorem dksX8_take_0 : cX8_take.data.toList.drop 0 = dktX8_take_0 := by decide +kernel
theorem dX8_take_0 : decode cX8_take 0 = .ok (.aload_n 0, 1) := dk_42 (dk_at dksX8_take_0 0 rfl rfl)
theorem dX8_take_1 : decode cX8_take 1 = .ok (.aload_n 0, 1) := dk_42 (dk_at dksX8_take_0 1 rfl rfl)
theorem dX8_take_2 : decode cX8_take 2 = .ok (.getfield 71, 3) := dk_180 0 71 (dk_at dksX8_take_0 2 rfl rfl)
theorem dX8_take_5 : decode cX8_take 5 = .ok (.aload_n 0, 1) := dk_42 (dk_at dksX8_take_0 5 rfl rfl)
theorem dX8_take_6 : decode cX8_take 6 = .ok (.getfield 74, 3) := dk_180 0 74 (dk_at dksX8_take_0 6 rfl rfl)
theorem dX8_take_9 : decode cX8_take 9 = .ok (.bipush 50, 2) := dk_16 50 (dk_at dksX8_take_0 9 rfl rfl)
theorem dX8_take_11 : decode cX8_take 11 = .ok (.invokevirtual 182, 3) := dk_182 0 182 (dk_at dksX8_take_0 11 rfl rfl)
theorem dX8_take_14 : decode cX8_take 14 = .ok (.return_, 1) := dk_177 (dk_at dksX8_take_0 14 rfl rfl)
abbrev cX8_goesSteps : ByteArray := prog_24_method_41_code
def yX8_goesSteps : MethodName := ⟨RX8, "goesSteps", "(II)V"⟩
def dkwX8_goesSteps_6 : List UInt8 := [4, 96, 181, 1, 68, 132, 3, 3, 167, 255, 108, 177]
abbrev dktX8_goesSteps_6 : List UInt8 := dkwX8_goesSteps_6 ++ []
def dkwX8_goesSteps_5 : List UInt8 := [182, 1, 74, 153, 0, 16, 42, 89, 180, 1, 65, 4, 96, 181, 1, 65, 167, 0, 13, 42, 89, 180, 1, 68]
abbrev dktX8_goesSteps_5 : List UInt8 := dkwX8_goesSteps_5 ++ dktX8_goesSteps_6
def dkwX8_goesSteps_4 : List UInt8 := [42, 42, 180, 0, 68, 29, 46, 42, 180, 0, 68, 29, 4, 96, 46, 42, 180, 0, 68, 29, 5, 96, 46]
abbrev dktX8_goesSteps_4 : List UInt8 := dkwX8_goesSteps_4 ++ dktX8_goesSteps_5
def dkwX8_goesSteps_3 : List UInt8 := [162, 0, 18, 42, 29, 6, 96, 21, 4, 182, 1, 71, 132, 5, 1, 167, 255, 221, 21, 4, 62, 167, 255, 166]
abbrev dktX8_goesSteps_3 : List UInt8 := dkwX8_goesSteps_3 ++ dktX8_goesSteps_4
def dkwX8_goesSteps_2 : List UInt8 := [3, 54, 5, 21, 5, 42, 180, 0, 68, 29, 4, 96, 46, 162, 0, 28, 42, 180, 1, 62, 17, 0, 200]
abbrev dktX8_goesSteps_2 : List UInt8 := dkwX8_goesSteps_2 ++ dktX8_goesSteps_3
def dkwX8_goesSteps_1 : List UInt8 := [181, 1, 62, 42, 180, 0, 68, 29, 46, 16, 7, 160, 0, 60, 42, 180, 0, 68, 29, 5, 96, 46, 54, 4]
abbrev dktX8_goesSteps_1 : List UInt8 := dkwX8_goesSteps_1 ++ dktX8_goesSteps_2
def dkwX8_goesSteps_0 : List UInt8 := [27, 62, 29, 28, 162, 0, 149, 42, 180, 1, 62, 17, 0, 200, 162, 0, 139, 42, 89, 180, 1, 62, 4, 96]
abbrev dktX8_goesSteps_0 : List UInt8 := dkwX8_goesSteps_0 ++ dktX8_goesSteps_1
theorem dksX8_goesSteps_0 : cX8_goesSteps.data.toList.drop 0 = dktX8_goesSteps_0 := by decide +kernel
theorem dksX8_goesSteps_1 : cX8_goesSteps.data.toList.drop 24 = dktX8_goesSteps_1 := dk_seg dksX8_goesSteps_0 24 rfl rfl
theorem dksX8_goesSteps_2 : cX8_goesSteps.data.toList.drop 48 = dktX8_goesSteps_2 := dk_seg dksX8_goesSteps_1 24 rfl rfl
theorem dksX8_goesSteps_3 : cX8_goesSteps.data.toList.drop 71 = dktX8_goesSteps_3 := dk_seg dksX8_goesSteps_2 23 rfl rfl
theorem dksX8_goesSteps_4 : cX8_goesSteps.data.toList.drop 95 = dktX8_goesSteps_4 := dk_seg dksX8_goesSteps_3 24 rfl rfl
theorem dksX8_goesSteps_5 : cX8_goesSteps.data.toList.drop 118 = dktX8_goesSteps_5 := dk_seg dksX8_goesSteps_4 23 rfl rfl
theorem dksX8_goesSteps_6 : cX8_goesSteps.data.toList.drop 142 = dktX8_goesSteps_6 := dk_seg dksX8_goesSteps_5 24 rfl rfl
theorem dX8_goesSteps_0 : decode cX8_goesSteps 0 = .ok (.iload_n 1, 1) := dk_27 (dk_at dksX8_goesSteps_0 0 rfl rfl)
theorem dX8_goesSteps_1 : decode cX8_goesSteps 1 = .ok (.istore_n 3, 1) := dk_62 (dk_at dksX8_goesSteps_0 1 rfl rfl)
theorem dX8_goesSteps_2 : decode cX8_goesSteps 2 = .ok (.iload_n 3, 1) := dk_29 (dk_at dksX8_goesSteps_0 2 rfl rfl)
theorem dX8_goesSteps_3 : decode cX8_goesSteps 3 = .ok (.iload_n 2, 1) := dk_28 (dk_at dksX8_goesSteps_0 3 rfl rfl)
theorem dX8_goesSteps_4 : decode cX8_goesSteps 4 = .ok (.if_icmp .ge 149, 3) := dk_162 0 149 (dk_at dksX8_goesSteps_0 4 rfl rfl)
theorem dX8_goesSteps_7 : decode cX8_goesSteps 7 = .ok (.aload_n 0, 1) := dk_42 (dk_at dksX8_goesSteps_0 7 rfl rfl)
theorem dX8_goesSteps_8 : decode cX8_goesSteps 8 = .ok (.getfield 318, 3) := dk_180 1 62 (dk_at dksX8_goesSteps_0 8 rfl rfl)
theorem dX8_goesSteps_11 : decode cX8_goesSteps 11 = .ok (.sipush 200, 3) := dk_17 0 200 (dk_at dksX8_goesSteps_0 11 rfl rfl)
theorem dX8_goesSteps_14 : decode cX8_goesSteps 14 = .ok (.if_icmp .ge 139, 3) := dk_162 0 139 (dk_at dksX8_goesSteps_0 14 rfl rfl)
theorem dX8_goesSteps_17 : decode cX8_goesSteps 17 = .ok (.aload_n 0, 1) := dk_42 (dk_at dksX8_goesSteps_0 17 rfl rfl)
theorem dX8_goesSteps_18 : decode cX8_goesSteps 18 = .ok (.dup, 1) := dk_89 (dk_at dksX8_goesSteps_0 18 rfl rfl)
theorem dX8_goesSteps_19 : decode cX8_goesSteps 19 = .ok (.getfield 318, 3) := dk_180 1 62 (dk_at dksX8_goesSteps_0 19 rfl rfl)
theorem dX8_goesSteps_22 : decode cX8_goesSteps 22 = .ok (.iconst 1, 1) := dk_4 (dk_at dksX8_goesSteps_0 22 rfl rfl)
theorem dX8_goesSteps_23 : decode cX8_goesSteps 23 = .ok (.iadd, 1) := dk_96 (dk_at dksX8_goesSteps_0 23 rfl rfl)
theorem dX8_goesSteps_24 : decode cX8_goesSteps 24 = .ok (.putfield 318, 3) := dk_181 1 62 (dk_at dksX8_goesSteps_1 0 rfl rfl)
theorem dX8_goesSteps_27 : decode cX8_goesSteps 27 = .ok (.aload_n 0, 1) := dk_42 (dk_at dksX8_goesSteps_1 3 rfl rfl)
theorem dX8_goesSteps_28 : decode cX8_goesSteps 28 = .ok (.getfield 68, 3) := dk_180 0 68 (dk_at dksX8_goesSteps_1 4 rfl rfl)
theorem dX8_goesSteps_31 : decode cX8_goesSteps 31 = .ok (.iload_n 3, 1) := dk_29 (dk_at dksX8_goesSteps_1 7 rfl rfl)
theorem dX8_goesSteps_32 : decode cX8_goesSteps 32 = .ok (.iaload, 1) := dk_46 (dk_at dksX8_goesSteps_1 8 rfl rfl)
theorem dX8_goesSteps_33 : decode cX8_goesSteps 33 = .ok (.bipush 7, 2) := dk_16 7 (dk_at dksX8_goesSteps_1 9 rfl rfl)
theorem dX8_goesSteps_35 : decode cX8_goesSteps 35 = .ok (.if_icmp .ne 60, 3) := dk_160 0 60 (dk_at dksX8_goesSteps_1 11 rfl rfl)
theorem dX8_goesSteps_38 : decode cX8_goesSteps 38 = .ok (.aload_n 0, 1) := dk_42 (dk_at dksX8_goesSteps_1 14 rfl rfl)
theorem dX8_goesSteps_39 : decode cX8_goesSteps 39 = .ok (.getfield 68, 3) := dk_180 0 68 (dk_at dksX8_goesSteps_1 15 rfl rfl)
theorem dX8_goesSteps_42 : decode cX8_goesSteps 42 = .ok (.iload_n 3, 1) := dk_29 (dk_at dksX8_goesSteps_1 18 rfl rfl)
theorem dX8_goesSteps_43 : decode cX8_goesSteps 43 = .ok (.iconst 2, 1) := dk_5 (dk_at dksX8_goesSteps_1 19 rfl rfl)
theorem dX8_goesSteps_44 : decode cX8_goesSteps 44 = .ok (.iadd, 1) := dk_96 (dk_at dksX8_goesSteps_1 20 rfl rfl)
theorem dX8_goesSteps_45 : decode cX8_goesSteps 45 = .ok (.iaload, 1) := dk_46 (dk_at dksX8_goesSteps_1 21 rfl rfl)
theorem dX8_goesSteps_46 : decode cX8_goesSteps 46 = .ok (.istore 4, 2) := dk_54 4 (dk_at dksX8_goesSteps_1 22 rfl rfl)
theorem dX8_goesSteps_48 : decode cX8_goesSteps 48 = .ok (.iconst 0, 1) := dk_3 (dk_at dksX8_goesSteps_2 0 rfl rfl)
theorem dX8_goesSteps_49 : decode cX8_goesSteps 49 = .ok (.istore 5, 2) := dk_54 5 (dk_at dksX8_goesSteps_2 1 rfl rfl)
theorem dX8_goesSteps_51 : decode cX8_goesSteps 51 = .ok (.iload 5, 2) := dk_21 5 (dk_at dksX8_goesSteps_2 3 rfl rfl)
theorem dX8_goesSteps_53 : decode cX8_goesSteps 53 = .ok (.aload_n 0, 1) := dk_42 (dk_at dksX8_goesSteps_2 5 rfl rfl)
theorem dX8_goesSteps_54 : decode cX8_goesSteps 54 = .ok (.getfield 68, 3) := dk_180 0 68 (dk_at dksX8_goesSteps_2 6 rfl rfl)
theorem dX8_goesSteps_57 : decode cX8_goesSteps 57 = .ok (.iload_n 3, 1) := dk_29 (dk_at dksX8_goesSteps_2 9 rfl rfl)
theorem dX8_goesSteps_58 : decode cX8_goesSteps 58 = .ok (.iconst 1, 1) := dk_4 (dk_at dksX8_goesSteps_2 10 rfl rfl)
theorem dX8_goesSteps_59 : decode cX8_goesSteps 59 = .ok (.iadd, 1) := dk_96 (dk_at dksX8_goesSteps_2 11 rfl rfl)
theorem dX8_goesSteps_60 : decode cX8_goesSteps 60 = .ok (.iaload, 1) := dk_46 (dk_at dksX8_goesSteps_2 12 rfl rfl)
theorem dX8_goesSteps_61 : decode cX8_goesSteps 61 = .ok (.if_icmp .ge 28, 3) := dk_162 0 28 (dk_at dksX8_goesSteps_2 13 rfl rfl)
theorem dX8_goesSteps_64 : decode cX8_goesSteps 64 = .ok (.aload_n 0, 1) := dk_42 (dk_at dksX8_goesSteps_2 16 rfl rfl)
theorem dX8_goesSteps_65 : decode cX8_goesSteps 65 = .ok (.getfield 318, 3) := dk_180 1 62 (dk_at dksX8_goesSteps_2 17 rfl rfl)
theorem dX8_goesSteps_68 : decode cX8_goesSteps 68 = .ok (.sipush 200, 3) := dk_17 0 200 (dk_at dksX8_goesSteps_2 20 rfl rfl)
theorem dX8_goesSteps_71 : decode cX8_goesSteps 71 = .ok (.if_icmp .ge 18, 3) := dk_162 0 18 (dk_at dksX8_goesSteps_3 0 rfl rfl)
theorem dX8_goesSteps_74 : decode cX8_goesSteps 74 = .ok (.aload_n 0, 1) := dk_42 (dk_at dksX8_goesSteps_3 3 rfl rfl)
theorem dX8_goesSteps_75 : decode cX8_goesSteps 75 = .ok (.iload_n 3, 1) := dk_29 (dk_at dksX8_goesSteps_3 4 rfl rfl)
theorem dX8_goesSteps_76 : decode cX8_goesSteps 76 = .ok (.iconst 3, 1) := dk_6 (dk_at dksX8_goesSteps_3 5 rfl rfl)
theorem dX8_goesSteps_77 : decode cX8_goesSteps 77 = .ok (.iadd, 1) := dk_96 (dk_at dksX8_goesSteps_3 6 rfl rfl)
theorem dX8_goesSteps_78 : decode cX8_goesSteps 78 = .ok (.iload 4, 2) := dk_21 4 (dk_at dksX8_goesSteps_3 7 rfl rfl)
theorem dX8_goesSteps_80 : decode cX8_goesSteps 80 = .ok (.invokevirtual 327, 3) := dk_182 1 71 (dk_at dksX8_goesSteps_3 9 rfl rfl)
theorem dX8_goesSteps_83 : decode cX8_goesSteps 83 = .ok (.iinc 5 1, 3) := dk_132 5 1 (dk_at dksX8_goesSteps_3 12 rfl rfl)
theorem dX8_goesSteps_86 : decode cX8_goesSteps 86 = .ok (.goto (-35), 3) := dk_167 255 221 (dk_at dksX8_goesSteps_3 15 rfl rfl)
theorem dX8_goesSteps_89 : decode cX8_goesSteps 89 = .ok (.iload 4, 2) := dk_21 4 (dk_at dksX8_goesSteps_3 18 rfl rfl)
theorem dX8_goesSteps_91 : decode cX8_goesSteps 91 = .ok (.istore_n 3, 1) := dk_62 (dk_at dksX8_goesSteps_3 20 rfl rfl)
theorem dX8_goesSteps_92 : decode cX8_goesSteps 92 = .ok (.goto (-90), 3) := dk_167 255 166 (dk_at dksX8_goesSteps_3 21 rfl rfl)
theorem dX8_goesSteps_95 : decode cX8_goesSteps 95 = .ok (.aload_n 0, 1) := dk_42 (dk_at dksX8_goesSteps_4 0 rfl rfl)
theorem dX8_goesSteps_96 : decode cX8_goesSteps 96 = .ok (.aload_n 0, 1) := dk_42 (dk_at dksX8_goesSteps_4 1 rfl rfl)
theorem dX8_goesSteps_97 : decode cX8_goesSteps 97 = .ok (.getfield 68, 3) := dk_180 0 68 (dk_at dksX8_goesSteps_4 2 rfl rfl)
theorem dX8_goesSteps_100 : decode cX8_goesSteps 100 = .ok (.iload_n 3, 1) := dk_29 (dk_at dksX8_goesSteps_4 5 rfl rfl)
theorem dX8_goesSteps_101 : decode cX8_goesSteps 101 = .ok (.iaload, 1) := dk_46 (dk_at dksX8_goesSteps_4 6 rfl rfl)
theorem dX8_goesSteps_102 : decode cX8_goesSteps 102 = .ok (.aload_n 0, 1) := dk_42 (dk_at dksX8_goesSteps_4 7 rfl rfl)
theorem dX8_goesSteps_103 : decode cX8_goesSteps 103 = .ok (.getfield 68, 3) := dk_180 0 68 (dk_at dksX8_goesSteps_4 8 rfl rfl)
theorem dX8_goesSteps_106 : decode cX8_goesSteps 106 = .ok (.iload_n 3, 1) := dk_29 (dk_at dksX8_goesSteps_4 11 rfl rfl)
theorem dX8_goesSteps_107 : decode cX8_goesSteps 107 = .ok (.iconst 1, 1) := dk_4 (dk_at dksX8_goesSteps_4 12 rfl rfl)
theorem dX8_goesSteps_108 : decode cX8_goesSteps 108 = .ok (.iadd, 1) := dk_96 (dk_at dksX8_goesSteps_4 13 rfl rfl)
theorem dX8_goesSteps_109 : decode cX8_goesSteps 109 = .ok (.iaload, 1) := dk_46 (dk_at dksX8_goesSteps_4 14 rfl rfl)
theorem dX8_goesSteps_110 : decode cX8_goesSteps 110 = .ok (.aload_n 0, 1) := dk_42 (dk_at dksX8_goesSteps_4 15 rfl rfl)
theorem dX8_goesSteps_111 : decode cX8_goesSteps 111 = .ok (.getfield 68, 3) := dk_180 0 68 (dk_at dksX8_goesSteps_4 16 rfl rfl)
theorem dX8_goesSteps_114 : decode cX8_goesSteps 114 = .ok (.iload_n 3, 1) := dk_29 (dk_at dksX8_goesSteps_4 19 rfl rfl)
theorem dX8_goesSteps_115 : decode cX8_goesSteps 115 = .ok (.iconst 2, 1) := dk_5 (dk_at dksX8_goesSteps_4 20 rfl rfl)
theorem dX8_goesSteps_116 : decode cX8_goesSteps 116 = .ok (.iadd, 1) := dk_96 (dk_at dksX8_goesSteps_4 21 rfl rfl)
theorem dX8_goesSteps_117 : decode cX8_goesSteps 117 = .ok (.iaload, 1) := dk_46 (dk_at dksX8_goesSteps_4 22 rfl rfl)
theorem dX8_goesSteps_118 : decode cX8_goesSteps 118 = .ok (.invokevirtual 330, 3) := dk_182 1 74 (dk_at dksX8_goesSteps_5 0 rfl rfl)
theorem dX8_goesSteps_121 : decode cX8_goesSteps 121 = .ok (.ifCond .eq 16, 3) := dk_153 0 16 (dk_at dksX8_goesSteps_5 3 rfl rfl)
theorem dX8_goesSteps_124 : decode cX8_goesSteps 124 = .ok (.aload_n 0, 1) := dk_42 (dk_at dksX8_goesSteps_5 6 rfl rfl)
theorem dX8_goesSteps_125 : decode cX8_goesSteps 125 = .ok (.dup, 1) := dk_89 (dk_at dksX8_goesSteps_5 7 rfl rfl)
theorem dX8_goesSteps_126 : decode cX8_goesSteps 126 = .ok (.getfield 321, 3) := dk_180 1 65 (dk_at dksX8_goesSteps_5 8 rfl rfl)
theorem dX8_goesSteps_129 : decode cX8_goesSteps 129 = .ok (.iconst 1, 1) := dk_4 (dk_at dksX8_goesSteps_5 11 rfl rfl)
theorem dX8_goesSteps_130 : decode cX8_goesSteps 130 = .ok (.iadd, 1) := dk_96 (dk_at dksX8_goesSteps_5 12 rfl rfl)
theorem dX8_goesSteps_131 : decode cX8_goesSteps 131 = .ok (.putfield 321, 3) := dk_181 1 65 (dk_at dksX8_goesSteps_5 13 rfl rfl)
theorem dX8_goesSteps_134 : decode cX8_goesSteps 134 = .ok (.goto 13, 3) := dk_167 0 13 (dk_at dksX8_goesSteps_5 16 rfl rfl)
theorem dX8_goesSteps_137 : decode cX8_goesSteps 137 = .ok (.aload_n 0, 1) := dk_42 (dk_at dksX8_goesSteps_5 19 rfl rfl)
theorem dX8_goesSteps_138 : decode cX8_goesSteps 138 = .ok (.dup, 1) := dk_89 (dk_at dksX8_goesSteps_5 20 rfl rfl)
theorem dX8_goesSteps_139 : decode cX8_goesSteps 139 = .ok (.getfield 324, 3) := dk_180 1 68 (dk_at dksX8_goesSteps_5 21 rfl rfl)
theorem dX8_goesSteps_142 : decode cX8_goesSteps 142 = .ok (.iconst 1, 1) := dk_4 (dk_at dksX8_goesSteps_6 0 rfl rfl)
theorem dX8_goesSteps_143 : decode cX8_goesSteps 143 = .ok (.iadd, 1) := dk_96 (dk_at dksX8_goesSteps_6 1 rfl rfl)
theorem dX8_goesSteps_144 : decode cX8_goesSteps 144 = .ok (.putfield 324, 3) := dk_181 1 68 (dk_at dksX8_goesSteps_6 2 rfl rfl)
theorem dX8_goesSteps_147 : decode cX8_goesSteps 147 = .ok (.iinc 3 3, 3) := dk_132 3 3 (dk_at dksX8_goesSteps_6 5 rfl rfl)
theorem dX8_goesSteps_150 : decode cX8_goesSteps 150 = .ok (.goto (-148), 3) := dk_167 255 108 (dk_at dksX8_goesSteps_6 8 rfl rfl)
theorem dX8_goesSteps_153 : decode cX8_goesSteps 153 = .ok (.return_, 1) := dk_177 (dk_at dksX8_goesSteps_6 11 rfl rfl)
abbrev cX8_isDone : ByteArray := prog_24_method_56_code
def yX8_isDone : MethodName := ⟨RX8, "isDone", "(III)Z"⟩
def dkwX8_isDone_4 : List UInt8 := [42, 182, 1, 119, 4, 172]
abbrev dktX8_isDone_4 : List UInt8 := dkwX8_isDone_4 ++ []
def dkwX8_isDone_3 : List UInt8 := [4, 167, 0, 4, 3, 182, 1, 112, 172, 42, 180, 0, 74, 16, 49, 46, 17, 1, 144, 160, 0, 5, 3, 172]
abbrev dktX8_isDone_3 : List UInt8 := dkwX8_isDone_3 ++ dktX8_isDone_4
def dkwX8_isDone_2 : List UInt8 := [182, 1, 116, 172, 27, 7, 159, 0, 8, 27, 8, 160, 0, 22, 42, 16, 35, 28, 96, 27, 8, 160, 0, 7]
abbrev dktX8_isDone_2 : List UInt8 := dkwX8_isDone_2 ++ dktX8_isDone_3
def dkwX8_isDone_1 : List UInt8 := [172, 27, 5, 160, 0, 11, 42, 16, 48, 28, 182, 1, 112, 172, 27, 6, 160, 0, 10, 42, 28, 29]
abbrev dktX8_isDone_1 : List UInt8 := dkwX8_isDone_1 ++ dktX8_isDone_2
def dkwX8_isDone_0 : List UInt8 := [27, 154, 0, 9, 42, 28, 182, 1, 109, 172, 27, 4, 160, 0, 13, 42, 16, 7, 28, 96, 29, 182, 1, 112]
abbrev dktX8_isDone_0 : List UInt8 := dkwX8_isDone_0 ++ dktX8_isDone_1
theorem dksX8_isDone_0 : cX8_isDone.data.toList.drop 0 = dktX8_isDone_0 := by decide +kernel
theorem dksX8_isDone_1 : cX8_isDone.data.toList.drop 24 = dktX8_isDone_1 := dk_seg dksX8_isDone_0 24 rfl rfl
theorem dksX8_isDone_2 : cX8_isDone.data.toList.drop 46 = dktX8_isDone_2 := dk_seg dksX8_isDone_1 22 rfl rfl
theorem dksX8_isDone_3 : cX8_isDone.data.toList.drop 70 = dktX8_isDone_3 := dk_seg dksX8_isDone_2 24 rfl rfl
theorem dksX8_isDone_4 : cX8_isDone.data.toList.drop 94 = dktX8_isDone_4 := dk_seg dksX8_isDone_3 24 rfl rfl
theorem dX8_isDone_0 : decode cX8_isDone 0 = .ok (.iload_n 1, 1) := dk_27 (dk_at dksX8_isDone_0 0 rfl rfl)
theorem dX8_isDone_1 : decode cX8_isDone 1 = .ok (.ifCond .ne 9, 3) := dk_154 0 9 (dk_at dksX8_isDone_0 1 rfl rfl)
theorem dX8_isDone_4 : decode cX8_isDone 4 = .ok (.aload_n 0, 1) := dk_42 (dk_at dksX8_isDone_0 4 rfl rfl)
theorem dX8_isDone_5 : decode cX8_isDone 5 = .ok (.iload_n 2, 1) := dk_28 (dk_at dksX8_isDone_0 5 rfl rfl)
theorem dX8_isDone_6 : decode cX8_isDone 6 = .ok (.invokevirtual 365, 3) := dk_182 1 109 (dk_at dksX8_isDone_0 6 rfl rfl)
theorem dX8_isDone_9 : decode cX8_isDone 9 = .ok (.ireturn, 1) := dk_172 (dk_at dksX8_isDone_0 9 rfl rfl)
theorem dX8_isDone_10 : decode cX8_isDone 10 = .ok (.iload_n 1, 1) := dk_27 (dk_at dksX8_isDone_0 10 rfl rfl)
theorem dX8_isDone_11 : decode cX8_isDone 11 = .ok (.iconst 1, 1) := dk_4 (dk_at dksX8_isDone_0 11 rfl rfl)
theorem dX8_isDone_12 : decode cX8_isDone 12 = .ok (.if_icmp .ne 13, 3) := dk_160 0 13 (dk_at dksX8_isDone_0 12 rfl rfl)
theorem dX8_isDone_15 : decode cX8_isDone 15 = .ok (.aload_n 0, 1) := dk_42 (dk_at dksX8_isDone_0 15 rfl rfl)
theorem dX8_isDone_16 : decode cX8_isDone 16 = .ok (.bipush 7, 2) := dk_16 7 (dk_at dksX8_isDone_0 16 rfl rfl)
theorem dX8_isDone_18 : decode cX8_isDone 18 = .ok (.iload_n 2, 1) := dk_28 (dk_at dksX8_isDone_0 18 rfl rfl)
theorem dX8_isDone_19 : decode cX8_isDone 19 = .ok (.iadd, 1) := dk_96 (dk_at dksX8_isDone_0 19 rfl rfl)
theorem dX8_isDone_20 : decode cX8_isDone 20 = .ok (.iload_n 3, 1) := dk_29 (dk_at dksX8_isDone_0 20 rfl rfl)
theorem dX8_isDone_21 : decode cX8_isDone 21 = .ok (.invokevirtual 368, 3) := dk_182 1 112 (dk_at dksX8_isDone_0 21 rfl rfl)
theorem dX8_isDone_24 : decode cX8_isDone 24 = .ok (.ireturn, 1) := dk_172 (dk_at dksX8_isDone_1 0 rfl rfl)
theorem dX8_isDone_25 : decode cX8_isDone 25 = .ok (.iload_n 1, 1) := dk_27 (dk_at dksX8_isDone_1 1 rfl rfl)
theorem dX8_isDone_26 : decode cX8_isDone 26 = .ok (.iconst 2, 1) := dk_5 (dk_at dksX8_isDone_1 2 rfl rfl)
theorem dX8_isDone_27 : decode cX8_isDone 27 = .ok (.if_icmp .ne 11, 3) := dk_160 0 11 (dk_at dksX8_isDone_1 3 rfl rfl)
theorem dX8_isDone_30 : decode cX8_isDone 30 = .ok (.aload_n 0, 1) := dk_42 (dk_at dksX8_isDone_1 6 rfl rfl)
theorem dX8_isDone_31 : decode cX8_isDone 31 = .ok (.bipush 48, 2) := dk_16 48 (dk_at dksX8_isDone_1 7 rfl rfl)
theorem dX8_isDone_33 : decode cX8_isDone 33 = .ok (.iload_n 2, 1) := dk_28 (dk_at dksX8_isDone_1 9 rfl rfl)
theorem dX8_isDone_34 : decode cX8_isDone 34 = .ok (.invokevirtual 368, 3) := dk_182 1 112 (dk_at dksX8_isDone_1 10 rfl rfl)
theorem dX8_isDone_37 : decode cX8_isDone 37 = .ok (.ireturn, 1) := dk_172 (dk_at dksX8_isDone_1 13 rfl rfl)
theorem dX8_isDone_38 : decode cX8_isDone 38 = .ok (.iload_n 1, 1) := dk_27 (dk_at dksX8_isDone_1 14 rfl rfl)
theorem dX8_isDone_39 : decode cX8_isDone 39 = .ok (.iconst 3, 1) := dk_6 (dk_at dksX8_isDone_1 15 rfl rfl)
theorem dX8_isDone_40 : decode cX8_isDone 40 = .ok (.if_icmp .ne 10, 3) := dk_160 0 10 (dk_at dksX8_isDone_1 16 rfl rfl)
theorem dX8_isDone_43 : decode cX8_isDone 43 = .ok (.aload_n 0, 1) := dk_42 (dk_at dksX8_isDone_1 19 rfl rfl)
theorem dX8_isDone_44 : decode cX8_isDone 44 = .ok (.iload_n 2, 1) := dk_28 (dk_at dksX8_isDone_1 20 rfl rfl)
theorem dX8_isDone_45 : decode cX8_isDone 45 = .ok (.iload_n 3, 1) := dk_29 (dk_at dksX8_isDone_1 21 rfl rfl)
theorem dX8_isDone_46 : decode cX8_isDone 46 = .ok (.invokevirtual 372, 3) := dk_182 1 116 (dk_at dksX8_isDone_2 0 rfl rfl)
theorem dX8_isDone_49 : decode cX8_isDone 49 = .ok (.ireturn, 1) := dk_172 (dk_at dksX8_isDone_2 3 rfl rfl)
theorem dX8_isDone_50 : decode cX8_isDone 50 = .ok (.iload_n 1, 1) := dk_27 (dk_at dksX8_isDone_2 4 rfl rfl)
theorem dX8_isDone_51 : decode cX8_isDone 51 = .ok (.iconst 4, 1) := dk_7 (dk_at dksX8_isDone_2 5 rfl rfl)
theorem dX8_isDone_52 : decode cX8_isDone 52 = .ok (.if_icmp .eq 8, 3) := dk_159 0 8 (dk_at dksX8_isDone_2 6 rfl rfl)
theorem dX8_isDone_55 : decode cX8_isDone 55 = .ok (.iload_n 1, 1) := dk_27 (dk_at dksX8_isDone_2 9 rfl rfl)
theorem dX8_isDone_56 : decode cX8_isDone 56 = .ok (.iconst 5, 1) := dk_8 (dk_at dksX8_isDone_2 10 rfl rfl)
theorem dX8_isDone_57 : decode cX8_isDone 57 = .ok (.if_icmp .ne 22, 3) := dk_160 0 22 (dk_at dksX8_isDone_2 11 rfl rfl)
theorem dX8_isDone_60 : decode cX8_isDone 60 = .ok (.aload_n 0, 1) := dk_42 (dk_at dksX8_isDone_2 14 rfl rfl)
theorem dX8_isDone_61 : decode cX8_isDone 61 = .ok (.bipush 35, 2) := dk_16 35 (dk_at dksX8_isDone_2 15 rfl rfl)
theorem dX8_isDone_63 : decode cX8_isDone 63 = .ok (.iload_n 2, 1) := dk_28 (dk_at dksX8_isDone_2 17 rfl rfl)
theorem dX8_isDone_64 : decode cX8_isDone 64 = .ok (.iadd, 1) := dk_96 (dk_at dksX8_isDone_2 18 rfl rfl)
theorem dX8_isDone_65 : decode cX8_isDone 65 = .ok (.iload_n 1, 1) := dk_27 (dk_at dksX8_isDone_2 19 rfl rfl)
theorem dX8_isDone_66 : decode cX8_isDone 66 = .ok (.iconst 5, 1) := dk_8 (dk_at dksX8_isDone_2 20 rfl rfl)
theorem dX8_isDone_67 : decode cX8_isDone 67 = .ok (.if_icmp .ne 7, 3) := dk_160 0 7 (dk_at dksX8_isDone_2 21 rfl rfl)
theorem dX8_isDone_70 : decode cX8_isDone 70 = .ok (.iconst 1, 1) := dk_4 (dk_at dksX8_isDone_3 0 rfl rfl)
theorem dX8_isDone_71 : decode cX8_isDone 71 = .ok (.goto 4, 3) := dk_167 0 4 (dk_at dksX8_isDone_3 1 rfl rfl)
theorem dX8_isDone_74 : decode cX8_isDone 74 = .ok (.iconst 0, 1) := dk_3 (dk_at dksX8_isDone_3 4 rfl rfl)
theorem dX8_isDone_75 : decode cX8_isDone 75 = .ok (.invokevirtual 368, 3) := dk_182 1 112 (dk_at dksX8_isDone_3 5 rfl rfl)
theorem dX8_isDone_78 : decode cX8_isDone 78 = .ok (.ireturn, 1) := dk_172 (dk_at dksX8_isDone_3 8 rfl rfl)
theorem dX8_isDone_79 : decode cX8_isDone 79 = .ok (.aload_n 0, 1) := dk_42 (dk_at dksX8_isDone_3 9 rfl rfl)
theorem dX8_isDone_80 : decode cX8_isDone 80 = .ok (.getfield 74, 3) := dk_180 0 74 (dk_at dksX8_isDone_3 10 rfl rfl)
theorem dX8_isDone_83 : decode cX8_isDone 83 = .ok (.bipush 49, 2) := dk_16 49 (dk_at dksX8_isDone_3 13 rfl rfl)
theorem dX8_isDone_85 : decode cX8_isDone 85 = .ok (.iaload, 1) := dk_46 (dk_at dksX8_isDone_3 15 rfl rfl)
theorem dX8_isDone_86 : decode cX8_isDone 86 = .ok (.sipush 400, 3) := dk_17 1 144 (dk_at dksX8_isDone_3 16 rfl rfl)
theorem dX8_isDone_89 : decode cX8_isDone 89 = .ok (.if_icmp .ne 5, 3) := dk_160 0 5 (dk_at dksX8_isDone_3 19 rfl rfl)
theorem dX8_isDone_92 : decode cX8_isDone 92 = .ok (.iconst 0, 1) := dk_3 (dk_at dksX8_isDone_3 22 rfl rfl)
theorem dX8_isDone_93 : decode cX8_isDone 93 = .ok (.ireturn, 1) := dk_172 (dk_at dksX8_isDone_3 23 rfl rfl)
theorem dX8_isDone_94 : decode cX8_isDone 94 = .ok (.aload_n 0, 1) := dk_42 (dk_at dksX8_isDone_4 0 rfl rfl)
theorem dX8_isDone_95 : decode cX8_isDone 95 = .ok (.invokevirtual 375, 3) := dk_182 1 119 (dk_at dksX8_isDone_4 1 rfl rfl)
theorem dX8_isDone_98 : decode cX8_isDone 98 = .ok (.iconst 1, 1) := dk_4 (dk_at dksX8_isDone_4 4 rfl rfl)
theorem dX8_isDone_99 : decode cX8_isDone 99 = .ok (.ireturn, 1) := dk_172 (dk_at dksX8_isDone_4 5 rfl rfl)
abbrev cX8_cuts : ByteArray := prog_24_method_53_code
def yX8_cuts : MethodName := ⟨RX8, "cuts", "(I)Z"⟩
def dkwX8_cuts_3 : List UInt8 := [42, 180, 0, 74, 16, 28, 27, 96, 42, 180, 0, 74, 16, 49, 46, 79, 4, 172]
abbrev dktX8_cuts_3 : List UInt8 := dkwX8_cuts_3 ++ []
def dkwX8_cuts_2 : List UInt8 := [79, 42, 180, 0, 74, 16, 21, 27, 96, 42, 180, 0, 74, 3, 27, 96, 46, 42, 28, 182, 1, 78, 100, 79]
abbrev dktX8_cuts_2 : List UInt8 := dkwX8_cuts_2 ++ dktX8_cuts_3
def dkwX8_cuts_1 : List UInt8 := [182, 1, 106, 167, 0, 4, 2, 61, 28, 2, 160, 0, 5, 3, 172, 42, 180, 0, 74, 16, 14, 27, 96, 28]
abbrev dktX8_cuts_1 : List UInt8 := dkwX8_cuts_1 ++ dktX8_cuts_2
def dkwX8_cuts_0 : List UInt8 := [42, 180, 0, 74, 16, 35, 27, 96, 46, 4, 160, 0, 18, 42, 42, 180, 0, 74, 3, 27, 96, 46]
abbrev dktX8_cuts_0 : List UInt8 := dkwX8_cuts_0 ++ dktX8_cuts_1
theorem dksX8_cuts_0 : cX8_cuts.data.toList.drop 0 = dktX8_cuts_0 := by decide +kernel
theorem dksX8_cuts_1 : cX8_cuts.data.toList.drop 22 = dktX8_cuts_1 := dk_seg dksX8_cuts_0 22 rfl rfl
theorem dksX8_cuts_2 : cX8_cuts.data.toList.drop 46 = dktX8_cuts_2 := dk_seg dksX8_cuts_1 24 rfl rfl
theorem dksX8_cuts_3 : cX8_cuts.data.toList.drop 70 = dktX8_cuts_3 := dk_seg dksX8_cuts_2 24 rfl rfl
theorem dX8_cuts_0 : decode cX8_cuts 0 = .ok (.aload_n 0, 1) := dk_42 (dk_at dksX8_cuts_0 0 rfl rfl)
theorem dX8_cuts_1 : decode cX8_cuts 1 = .ok (.getfield 74, 3) := dk_180 0 74 (dk_at dksX8_cuts_0 1 rfl rfl)
theorem dX8_cuts_4 : decode cX8_cuts 4 = .ok (.bipush 35, 2) := dk_16 35 (dk_at dksX8_cuts_0 4 rfl rfl)
theorem dX8_cuts_6 : decode cX8_cuts 6 = .ok (.iload_n 1, 1) := dk_27 (dk_at dksX8_cuts_0 6 rfl rfl)
theorem dX8_cuts_7 : decode cX8_cuts 7 = .ok (.iadd, 1) := dk_96 (dk_at dksX8_cuts_0 7 rfl rfl)
theorem dX8_cuts_8 : decode cX8_cuts 8 = .ok (.iaload, 1) := dk_46 (dk_at dksX8_cuts_0 8 rfl rfl)
theorem dX8_cuts_9 : decode cX8_cuts 9 = .ok (.iconst 1, 1) := dk_4 (dk_at dksX8_cuts_0 9 rfl rfl)
theorem dX8_cuts_10 : decode cX8_cuts 10 = .ok (.if_icmp .ne 18, 3) := dk_160 0 18 (dk_at dksX8_cuts_0 10 rfl rfl)
theorem dX8_cuts_13 : decode cX8_cuts 13 = .ok (.aload_n 0, 1) := dk_42 (dk_at dksX8_cuts_0 13 rfl rfl)
theorem dX8_cuts_14 : decode cX8_cuts 14 = .ok (.aload_n 0, 1) := dk_42 (dk_at dksX8_cuts_0 14 rfl rfl)
theorem dX8_cuts_15 : decode cX8_cuts 15 = .ok (.getfield 74, 3) := dk_180 0 74 (dk_at dksX8_cuts_0 15 rfl rfl)
theorem dX8_cuts_18 : decode cX8_cuts 18 = .ok (.iconst 0, 1) := dk_3 (dk_at dksX8_cuts_0 18 rfl rfl)
theorem dX8_cuts_19 : decode cX8_cuts 19 = .ok (.iload_n 1, 1) := dk_27 (dk_at dksX8_cuts_0 19 rfl rfl)
theorem dX8_cuts_20 : decode cX8_cuts 20 = .ok (.iadd, 1) := dk_96 (dk_at dksX8_cuts_0 20 rfl rfl)
theorem dX8_cuts_21 : decode cX8_cuts 21 = .ok (.iaload, 1) := dk_46 (dk_at dksX8_cuts_0 21 rfl rfl)
theorem dX8_cuts_22 : decode cX8_cuts 22 = .ok (.invokevirtual 362, 3) := dk_182 1 106 (dk_at dksX8_cuts_1 0 rfl rfl)
theorem dX8_cuts_25 : decode cX8_cuts 25 = .ok (.goto 4, 3) := dk_167 0 4 (dk_at dksX8_cuts_1 3 rfl rfl)
theorem dX8_cuts_28 : decode cX8_cuts 28 = .ok (.iconst (-1), 1) := dk_2 (dk_at dksX8_cuts_1 6 rfl rfl)
theorem dX8_cuts_29 : decode cX8_cuts 29 = .ok (.istore_n 2, 1) := dk_61 (dk_at dksX8_cuts_1 7 rfl rfl)
theorem dX8_cuts_30 : decode cX8_cuts 30 = .ok (.iload_n 2, 1) := dk_28 (dk_at dksX8_cuts_1 8 rfl rfl)
theorem dX8_cuts_31 : decode cX8_cuts 31 = .ok (.iconst (-1), 1) := dk_2 (dk_at dksX8_cuts_1 9 rfl rfl)
theorem dX8_cuts_32 : decode cX8_cuts 32 = .ok (.if_icmp .ne 5, 3) := dk_160 0 5 (dk_at dksX8_cuts_1 10 rfl rfl)
theorem dX8_cuts_35 : decode cX8_cuts 35 = .ok (.iconst 0, 1) := dk_3 (dk_at dksX8_cuts_1 13 rfl rfl)
theorem dX8_cuts_36 : decode cX8_cuts 36 = .ok (.ireturn, 1) := dk_172 (dk_at dksX8_cuts_1 14 rfl rfl)
theorem dX8_cuts_37 : decode cX8_cuts 37 = .ok (.aload_n 0, 1) := dk_42 (dk_at dksX8_cuts_1 15 rfl rfl)
theorem dX8_cuts_38 : decode cX8_cuts 38 = .ok (.getfield 74, 3) := dk_180 0 74 (dk_at dksX8_cuts_1 16 rfl rfl)
theorem dX8_cuts_41 : decode cX8_cuts 41 = .ok (.bipush 14, 2) := dk_16 14 (dk_at dksX8_cuts_1 19 rfl rfl)
theorem dX8_cuts_43 : decode cX8_cuts 43 = .ok (.iload_n 1, 1) := dk_27 (dk_at dksX8_cuts_1 21 rfl rfl)
theorem dX8_cuts_44 : decode cX8_cuts 44 = .ok (.iadd, 1) := dk_96 (dk_at dksX8_cuts_1 22 rfl rfl)
theorem dX8_cuts_45 : decode cX8_cuts 45 = .ok (.iload_n 2, 1) := dk_28 (dk_at dksX8_cuts_1 23 rfl rfl)
theorem dX8_cuts_46 : decode cX8_cuts 46 = .ok (.iastore, 1) := dk_79 (dk_at dksX8_cuts_2 0 rfl rfl)
theorem dX8_cuts_47 : decode cX8_cuts 47 = .ok (.aload_n 0, 1) := dk_42 (dk_at dksX8_cuts_2 1 rfl rfl)
theorem dX8_cuts_48 : decode cX8_cuts 48 = .ok (.getfield 74, 3) := dk_180 0 74 (dk_at dksX8_cuts_2 2 rfl rfl)
theorem dX8_cuts_51 : decode cX8_cuts 51 = .ok (.bipush 21, 2) := dk_16 21 (dk_at dksX8_cuts_2 5 rfl rfl)
theorem dX8_cuts_53 : decode cX8_cuts 53 = .ok (.iload_n 1, 1) := dk_27 (dk_at dksX8_cuts_2 7 rfl rfl)
theorem dX8_cuts_54 : decode cX8_cuts 54 = .ok (.iadd, 1) := dk_96 (dk_at dksX8_cuts_2 8 rfl rfl)
theorem dX8_cuts_55 : decode cX8_cuts 55 = .ok (.aload_n 0, 1) := dk_42 (dk_at dksX8_cuts_2 9 rfl rfl)
theorem dX8_cuts_56 : decode cX8_cuts 56 = .ok (.getfield 74, 3) := dk_180 0 74 (dk_at dksX8_cuts_2 10 rfl rfl)
theorem dX8_cuts_59 : decode cX8_cuts 59 = .ok (.iconst 0, 1) := dk_3 (dk_at dksX8_cuts_2 13 rfl rfl)
theorem dX8_cuts_60 : decode cX8_cuts 60 = .ok (.iload_n 1, 1) := dk_27 (dk_at dksX8_cuts_2 14 rfl rfl)
theorem dX8_cuts_61 : decode cX8_cuts 61 = .ok (.iadd, 1) := dk_96 (dk_at dksX8_cuts_2 15 rfl rfl)
theorem dX8_cuts_62 : decode cX8_cuts 62 = .ok (.iaload, 1) := dk_46 (dk_at dksX8_cuts_2 16 rfl rfl)
theorem dX8_cuts_63 : decode cX8_cuts 63 = .ok (.aload_n 0, 1) := dk_42 (dk_at dksX8_cuts_2 17 rfl rfl)
theorem dX8_cuts_64 : decode cX8_cuts 64 = .ok (.iload_n 2, 1) := dk_28 (dk_at dksX8_cuts_2 18 rfl rfl)
theorem dX8_cuts_65 : decode cX8_cuts 65 = .ok (.invokevirtual 334, 3) := dk_182 1 78 (dk_at dksX8_cuts_2 19 rfl rfl)
theorem dX8_cuts_68 : decode cX8_cuts 68 = .ok (.isub, 1) := dk_100 (dk_at dksX8_cuts_2 22 rfl rfl)
theorem dX8_cuts_69 : decode cX8_cuts 69 = .ok (.iastore, 1) := dk_79 (dk_at dksX8_cuts_2 23 rfl rfl)
theorem dX8_cuts_70 : decode cX8_cuts 70 = .ok (.aload_n 0, 1) := dk_42 (dk_at dksX8_cuts_3 0 rfl rfl)
theorem dX8_cuts_71 : decode cX8_cuts 71 = .ok (.getfield 74, 3) := dk_180 0 74 (dk_at dksX8_cuts_3 1 rfl rfl)
theorem dX8_cuts_74 : decode cX8_cuts 74 = .ok (.bipush 28, 2) := dk_16 28 (dk_at dksX8_cuts_3 4 rfl rfl)
theorem dX8_cuts_76 : decode cX8_cuts 76 = .ok (.iload_n 1, 1) := dk_27 (dk_at dksX8_cuts_3 6 rfl rfl)
theorem dX8_cuts_77 : decode cX8_cuts 77 = .ok (.iadd, 1) := dk_96 (dk_at dksX8_cuts_3 7 rfl rfl)
theorem dX8_cuts_78 : decode cX8_cuts 78 = .ok (.aload_n 0, 1) := dk_42 (dk_at dksX8_cuts_3 8 rfl rfl)
theorem dX8_cuts_79 : decode cX8_cuts 79 = .ok (.getfield 74, 3) := dk_180 0 74 (dk_at dksX8_cuts_3 9 rfl rfl)
theorem dX8_cuts_82 : decode cX8_cuts 82 = .ok (.bipush 49, 2) := dk_16 49 (dk_at dksX8_cuts_3 12 rfl rfl)
theorem dX8_cuts_84 : decode cX8_cuts 84 = .ok (.iaload, 1) := dk_46 (dk_at dksX8_cuts_3 14 rfl rfl)
theorem dX8_cuts_85 : decode cX8_cuts 85 = .ok (.iastore, 1) := dk_79 (dk_at dksX8_cuts_3 15 rfl rfl)
theorem dX8_cuts_86 : decode cX8_cuts 86 = .ok (.iconst 1, 1) := dk_4 (dk_at dksX8_cuts_3 16 rfl rfl)
theorem dX8_cuts_87 : decode cX8_cuts 87 = .ok (.ireturn, 1) := dk_172 (dk_at dksX8_cuts_3 17 rfl rfl)
abbrev cX8_boardAt : ByteArray := prog_24_method_47_code
def yX8_boardAt : MethodName := ⟨RX8, "boardAt", "(I)I"⟩
def dkwX8_boardAt_1 : List UInt8 := [132, 2, 1, 167, 255, 232, 2, 172]
abbrev dktX8_boardAt_1 : List UInt8 := dkwX8_boardAt_1 ++ []
def dkwX8_boardAt_0 : List UInt8 := [3, 61, 28, 42, 180, 0, 176, 162, 0, 22, 42, 28, 4, 96, 182, 1, 78, 27, 161, 0, 5, 28, 172]
abbrev dktX8_boardAt_0 : List UInt8 := dkwX8_boardAt_0 ++ dktX8_boardAt_1
theorem dksX8_boardAt_0 : cX8_boardAt.data.toList.drop 0 = dktX8_boardAt_0 := by decide +kernel
theorem dksX8_boardAt_1 : cX8_boardAt.data.toList.drop 23 = dktX8_boardAt_1 := dk_seg dksX8_boardAt_0 23 rfl rfl
theorem dX8_boardAt_0 : decode cX8_boardAt 0 = .ok (.iconst 0, 1) := dk_3 (dk_at dksX8_boardAt_0 0 rfl rfl)
theorem dX8_boardAt_1 : decode cX8_boardAt 1 = .ok (.istore_n 2, 1) := dk_61 (dk_at dksX8_boardAt_0 1 rfl rfl)
theorem dX8_boardAt_2 : decode cX8_boardAt 2 = .ok (.iload_n 2, 1) := dk_28 (dk_at dksX8_boardAt_0 2 rfl rfl)
theorem dX8_boardAt_3 : decode cX8_boardAt 3 = .ok (.aload_n 0, 1) := dk_42 (dk_at dksX8_boardAt_0 3 rfl rfl)
theorem dX8_boardAt_4 : decode cX8_boardAt 4 = .ok (.getfield 176, 3) := dk_180 0 176 (dk_at dksX8_boardAt_0 4 rfl rfl)
theorem dX8_boardAt_7 : decode cX8_boardAt 7 = .ok (.if_icmp .ge 22, 3) := dk_162 0 22 (dk_at dksX8_boardAt_0 7 rfl rfl)
theorem dX8_boardAt_10 : decode cX8_boardAt 10 = .ok (.aload_n 0, 1) := dk_42 (dk_at dksX8_boardAt_0 10 rfl rfl)
theorem dX8_boardAt_11 : decode cX8_boardAt 11 = .ok (.iload_n 2, 1) := dk_28 (dk_at dksX8_boardAt_0 11 rfl rfl)
theorem dX8_boardAt_12 : decode cX8_boardAt 12 = .ok (.iconst 1, 1) := dk_4 (dk_at dksX8_boardAt_0 12 rfl rfl)
theorem dX8_boardAt_13 : decode cX8_boardAt 13 = .ok (.iadd, 1) := dk_96 (dk_at dksX8_boardAt_0 13 rfl rfl)
theorem dX8_boardAt_14 : decode cX8_boardAt 14 = .ok (.invokevirtual 334, 3) := dk_182 1 78 (dk_at dksX8_boardAt_0 14 rfl rfl)
theorem dX8_boardAt_17 : decode cX8_boardAt 17 = .ok (.iload_n 1, 1) := dk_27 (dk_at dksX8_boardAt_0 17 rfl rfl)
theorem dX8_boardAt_18 : decode cX8_boardAt 18 = .ok (.if_icmp .lt 5, 3) := dk_161 0 5 (dk_at dksX8_boardAt_0 18 rfl rfl)
theorem dX8_boardAt_21 : decode cX8_boardAt 21 = .ok (.iload_n 2, 1) := dk_28 (dk_at dksX8_boardAt_0 21 rfl rfl)
theorem dX8_boardAt_22 : decode cX8_boardAt 22 = .ok (.ireturn, 1) := dk_172 (dk_at dksX8_boardAt_0 22 rfl rfl)
theorem dX8_boardAt_23 : decode cX8_boardAt 23 = .ok (.iinc 2 1, 3) := dk_132 2 1 (dk_at dksX8_boardAt_1 0 rfl rfl)
theorem dX8_boardAt_26 : decode cX8_boardAt 26 = .ok (.goto (-24), 3) := dk_167 255 232 (dk_at dksX8_boardAt_1 3 rfl rfl)
theorem dX8_boardAt_29 : decode cX8_boardAt 29 = .ok (.iconst (-1), 1) := dk_2 (dk_at dksX8_boardAt_1 6 rfl rfl)
theorem dX8_boardAt_30 : decode cX8_boardAt 30 = .ok (.ireturn, 1) := dk_172 (dk_at dksX8_boardAt_1 7 rfl rfl)
abbrev cX8_below : ByteArray := prog_24_method_44_code
def yX8_below : MethodName := ⟨RX8, "below", "(I)I"⟩
def dkwX8_below_1 : List UInt8 := [167, 255, 236, 28, 172]
abbrev dktX8_below_1 : List UInt8 := dkwX8_below_1 ++ []
def dkwX8_below_0 : List UInt8 := [3, 61, 3, 62, 29, 27, 162, 0, 21, 28, 42, 180, 0, 74, 16, 42, 29, 96, 46, 96, 61, 132, 3, 1]
abbrev dktX8_below_0 : List UInt8 := dkwX8_below_0 ++ dktX8_below_1
theorem dksX8_below_0 : cX8_below.data.toList.drop 0 = dktX8_below_0 := by decide +kernel
theorem dksX8_below_1 : cX8_below.data.toList.drop 24 = dktX8_below_1 := dk_seg dksX8_below_0 24 rfl rfl
theorem dX8_below_0 : decode cX8_below 0 = .ok (.iconst 0, 1) := dk_3 (dk_at dksX8_below_0 0 rfl rfl)
theorem dX8_below_1 : decode cX8_below 1 = .ok (.istore_n 2, 1) := dk_61 (dk_at dksX8_below_0 1 rfl rfl)
theorem dX8_below_2 : decode cX8_below 2 = .ok (.iconst 0, 1) := dk_3 (dk_at dksX8_below_0 2 rfl rfl)
theorem dX8_below_3 : decode cX8_below 3 = .ok (.istore_n 3, 1) := dk_62 (dk_at dksX8_below_0 3 rfl rfl)
theorem dX8_below_4 : decode cX8_below 4 = .ok (.iload_n 3, 1) := dk_29 (dk_at dksX8_below_0 4 rfl rfl)
theorem dX8_below_5 : decode cX8_below 5 = .ok (.iload_n 1, 1) := dk_27 (dk_at dksX8_below_0 5 rfl rfl)
theorem dX8_below_6 : decode cX8_below 6 = .ok (.if_icmp .ge 21, 3) := dk_162 0 21 (dk_at dksX8_below_0 6 rfl rfl)
theorem dX8_below_9 : decode cX8_below 9 = .ok (.iload_n 2, 1) := dk_28 (dk_at dksX8_below_0 9 rfl rfl)
theorem dX8_below_10 : decode cX8_below 10 = .ok (.aload_n 0, 1) := dk_42 (dk_at dksX8_below_0 10 rfl rfl)
theorem dX8_below_11 : decode cX8_below 11 = .ok (.getfield 74, 3) := dk_180 0 74 (dk_at dksX8_below_0 11 rfl rfl)
theorem dX8_below_14 : decode cX8_below 14 = .ok (.bipush 42, 2) := dk_16 42 (dk_at dksX8_below_0 14 rfl rfl)
theorem dX8_below_16 : decode cX8_below 16 = .ok (.iload_n 3, 1) := dk_29 (dk_at dksX8_below_0 16 rfl rfl)
theorem dX8_below_17 : decode cX8_below 17 = .ok (.iadd, 1) := dk_96 (dk_at dksX8_below_0 17 rfl rfl)
theorem dX8_below_18 : decode cX8_below 18 = .ok (.iaload, 1) := dk_46 (dk_at dksX8_below_0 18 rfl rfl)
theorem dX8_below_19 : decode cX8_below 19 = .ok (.iadd, 1) := dk_96 (dk_at dksX8_below_0 19 rfl rfl)
theorem dX8_below_20 : decode cX8_below 20 = .ok (.istore_n 2, 1) := dk_61 (dk_at dksX8_below_0 20 rfl rfl)
theorem dX8_below_21 : decode cX8_below 21 = .ok (.iinc 3 1, 3) := dk_132 3 1 (dk_at dksX8_below_0 21 rfl rfl)
theorem dX8_below_24 : decode cX8_below 24 = .ok (.goto (-20), 3) := dk_167 255 236 (dk_at dksX8_below_1 0 rfl rfl)
theorem dX8_below_27 : decode cX8_below 27 = .ok (.iload_n 2, 1) := dk_28 (dk_at dksX8_below_1 3 rfl rfl)
theorem dX8_below_28 : decode cX8_below 28 = .ok (.ireturn, 1) := dk_172 (dk_at dksX8_below_1 4 rfl rfl)
abbrev cX8_becomes : ByteArray := prog_24_method_55_code
def yX8_becomes : MethodName := ⟨RX8, "becomes", "(II)Z"⟩
def dkwX8_becomes_0 : List UInt8 := [42, 180, 0, 74, 27, 46, 28, 160, 0, 5, 3, 172, 42, 180, 0, 74, 27, 28, 79, 4, 172]
abbrev dktX8_becomes_0 : List UInt8 := dkwX8_becomes_0 ++ []
theorem dksX8_becomes_0 : cX8_becomes.data.toList.drop 0 = dktX8_becomes_0 := by decide +kernel
theorem dX8_becomes_0 : decode cX8_becomes 0 = .ok (.aload_n 0, 1) := dk_42 (dk_at dksX8_becomes_0 0 rfl rfl)
theorem dX8_becomes_1 : decode cX8_becomes 1 = .ok (.getfield 74, 3) := dk_180 0 74 (dk_at dksX8_becomes_0 1 rfl rfl)
theorem dX8_becomes_4 : decode cX8_becomes 4 = .ok (.iload_n 1, 1) := dk_27 (dk_at dksX8_becomes_0 4 rfl rfl)
theorem dX8_becomes_5 : decode cX8_becomes 5 = .ok (.iaload, 1) := dk_46 (dk_at dksX8_becomes_0 5 rfl rfl)
theorem dX8_becomes_6 : decode cX8_becomes 6 = .ok (.iload_n 2, 1) := dk_28 (dk_at dksX8_becomes_0 6 rfl rfl)
theorem dX8_becomes_7 : decode cX8_becomes 7 = .ok (.if_icmp .ne 5, 3) := dk_160 0 5 (dk_at dksX8_becomes_0 7 rfl rfl)
theorem dX8_becomes_10 : decode cX8_becomes 10 = .ok (.iconst 0, 1) := dk_3 (dk_at dksX8_becomes_0 10 rfl rfl)
theorem dX8_becomes_11 : decode cX8_becomes 11 = .ok (.ireturn, 1) := dk_172 (dk_at dksX8_becomes_0 11 rfl rfl)
theorem dX8_becomes_12 : decode cX8_becomes 12 = .ok (.aload_n 0, 1) := dk_42 (dk_at dksX8_becomes_0 12 rfl rfl)
theorem dX8_becomes_13 : decode cX8_becomes 13 = .ok (.getfield 74, 3) := dk_180 0 74 (dk_at dksX8_becomes_0 13 rfl rfl)
theorem dX8_becomes_16 : decode cX8_becomes 16 = .ok (.iload_n 1, 1) := dk_27 (dk_at dksX8_becomes_0 16 rfl rfl)
theorem dX8_becomes_17 : decode cX8_becomes 17 = .ok (.iload_n 2, 1) := dk_28 (dk_at dksX8_becomes_0 17 rfl rfl)
theorem dX8_becomes_18 : decode cX8_becomes 18 = .ok (.iastore, 1) := dk_79 (dk_at dksX8_becomes_0 18 rfl rfl)
theorem dX8_becomes_19 : decode cX8_becomes 19 = .ok (.iconst 1, 1) := dk_4 (dk_at dksX8_becomes_0 19 rfl rfl)
theorem dX8_becomes_20 : decode cX8_becomes 20 = .ok (.ireturn, 1) := dk_172 (dk_at dksX8_becomes_0 20 rfl rfl)
abbrev cX8_planed : ByteArray := prog_24_method_54_code
def yX8_planed : MethodName := ⟨RX8, "planed", "(II)Z"⟩
def dkwX8_planed_4 : List UInt8 := [4, 172]
abbrev dktX8_planed_4 : List UInt8 := dkwX8_planed_4 ++ []
def dkwX8_planed_3 : List UInt8 := [42, 180, 0, 74, 16, 21, 29, 96, 42, 180, 0, 74, 16, 42, 27, 96, 46, 79, 132, 3, 1, 167, 255, 193]
abbrev dktX8_planed_3 : List UInt8 := dkwX8_planed_3 ++ dktX8_planed_4
def dkwX8_planed_2 : List UInt8 := [160, 0, 42, 42, 180, 0, 74, 16, 21, 29, 96, 46, 42, 180, 0, 74, 16, 42, 27, 96, 46, 164, 0, 21]
abbrev dktX8_planed_2 : List UInt8 := dkwX8_planed_2 ++ dktX8_planed_3
def dkwX8_planed_1 : List UInt8 := [46, 28, 100, 79, 3, 62, 29, 42, 180, 0, 179, 162, 0, 61, 42, 180, 0, 74, 16, 14, 29, 96, 46, 27]
abbrev dktX8_planed_1 : List UInt8 := dkwX8_planed_1 ++ dktX8_planed_2
def dkwX8_planed_0 : List UInt8 := [42, 180, 0, 74, 16, 42, 27, 96, 46, 28, 163, 0, 5, 3, 172, 42, 180, 0, 74, 16, 42, 27, 96, 92]
abbrev dktX8_planed_0 : List UInt8 := dkwX8_planed_0 ++ dktX8_planed_1
theorem dksX8_planed_0 : cX8_planed.data.toList.drop 0 = dktX8_planed_0 := by decide +kernel
theorem dksX8_planed_1 : cX8_planed.data.toList.drop 24 = dktX8_planed_1 := dk_seg dksX8_planed_0 24 rfl rfl
theorem dksX8_planed_2 : cX8_planed.data.toList.drop 48 = dktX8_planed_2 := dk_seg dksX8_planed_1 24 rfl rfl
theorem dksX8_planed_3 : cX8_planed.data.toList.drop 72 = dktX8_planed_3 := dk_seg dksX8_planed_2 24 rfl rfl
theorem dksX8_planed_4 : cX8_planed.data.toList.drop 96 = dktX8_planed_4 := dk_seg dksX8_planed_3 24 rfl rfl
theorem dX8_planed_0 : decode cX8_planed 0 = .ok (.aload_n 0, 1) := dk_42 (dk_at dksX8_planed_0 0 rfl rfl)
theorem dX8_planed_1 : decode cX8_planed 1 = .ok (.getfield 74, 3) := dk_180 0 74 (dk_at dksX8_planed_0 1 rfl rfl)
theorem dX8_planed_4 : decode cX8_planed 4 = .ok (.bipush 42, 2) := dk_16 42 (dk_at dksX8_planed_0 4 rfl rfl)
theorem dX8_planed_6 : decode cX8_planed 6 = .ok (.iload_n 1, 1) := dk_27 (dk_at dksX8_planed_0 6 rfl rfl)
theorem dX8_planed_7 : decode cX8_planed 7 = .ok (.iadd, 1) := dk_96 (dk_at dksX8_planed_0 7 rfl rfl)
theorem dX8_planed_8 : decode cX8_planed 8 = .ok (.iaload, 1) := dk_46 (dk_at dksX8_planed_0 8 rfl rfl)
theorem dX8_planed_9 : decode cX8_planed 9 = .ok (.iload_n 2, 1) := dk_28 (dk_at dksX8_planed_0 9 rfl rfl)
theorem dX8_planed_10 : decode cX8_planed 10 = .ok (.if_icmp .gt 5, 3) := dk_163 0 5 (dk_at dksX8_planed_0 10 rfl rfl)
theorem dX8_planed_13 : decode cX8_planed 13 = .ok (.iconst 0, 1) := dk_3 (dk_at dksX8_planed_0 13 rfl rfl)
theorem dX8_planed_14 : decode cX8_planed 14 = .ok (.ireturn, 1) := dk_172 (dk_at dksX8_planed_0 14 rfl rfl)
theorem dX8_planed_15 : decode cX8_planed 15 = .ok (.aload_n 0, 1) := dk_42 (dk_at dksX8_planed_0 15 rfl rfl)
theorem dX8_planed_16 : decode cX8_planed 16 = .ok (.getfield 74, 3) := dk_180 0 74 (dk_at dksX8_planed_0 16 rfl rfl)
theorem dX8_planed_19 : decode cX8_planed 19 = .ok (.bipush 42, 2) := dk_16 42 (dk_at dksX8_planed_0 19 rfl rfl)
theorem dX8_planed_21 : decode cX8_planed 21 = .ok (.iload_n 1, 1) := dk_27 (dk_at dksX8_planed_0 21 rfl rfl)
theorem dX8_planed_22 : decode cX8_planed 22 = .ok (.iadd, 1) := dk_96 (dk_at dksX8_planed_0 22 rfl rfl)
theorem dX8_planed_23 : decode cX8_planed 23 = .ok (.dup2, 1) := dk_92 (dk_at dksX8_planed_0 23 rfl rfl)
theorem dX8_planed_24 : decode cX8_planed 24 = .ok (.iaload, 1) := dk_46 (dk_at dksX8_planed_1 0 rfl rfl)
theorem dX8_planed_25 : decode cX8_planed 25 = .ok (.iload_n 2, 1) := dk_28 (dk_at dksX8_planed_1 1 rfl rfl)
theorem dX8_planed_26 : decode cX8_planed 26 = .ok (.isub, 1) := dk_100 (dk_at dksX8_planed_1 2 rfl rfl)
theorem dX8_planed_27 : decode cX8_planed 27 = .ok (.iastore, 1) := dk_79 (dk_at dksX8_planed_1 3 rfl rfl)
theorem dX8_planed_28 : decode cX8_planed 28 = .ok (.iconst 0, 1) := dk_3 (dk_at dksX8_planed_1 4 rfl rfl)
theorem dX8_planed_29 : decode cX8_planed 29 = .ok (.istore_n 3, 1) := dk_62 (dk_at dksX8_planed_1 5 rfl rfl)
theorem dX8_planed_30 : decode cX8_planed 30 = .ok (.iload_n 3, 1) := dk_29 (dk_at dksX8_planed_1 6 rfl rfl)
theorem dX8_planed_31 : decode cX8_planed 31 = .ok (.aload_n 0, 1) := dk_42 (dk_at dksX8_planed_1 7 rfl rfl)
theorem dX8_planed_32 : decode cX8_planed 32 = .ok (.getfield 179, 3) := dk_180 0 179 (dk_at dksX8_planed_1 8 rfl rfl)
theorem dX8_planed_35 : decode cX8_planed 35 = .ok (.if_icmp .ge 61, 3) := dk_162 0 61 (dk_at dksX8_planed_1 11 rfl rfl)
theorem dX8_planed_38 : decode cX8_planed 38 = .ok (.aload_n 0, 1) := dk_42 (dk_at dksX8_planed_1 14 rfl rfl)
theorem dX8_planed_39 : decode cX8_planed 39 = .ok (.getfield 74, 3) := dk_180 0 74 (dk_at dksX8_planed_1 15 rfl rfl)
theorem dX8_planed_42 : decode cX8_planed 42 = .ok (.bipush 14, 2) := dk_16 14 (dk_at dksX8_planed_1 18 rfl rfl)
theorem dX8_planed_44 : decode cX8_planed 44 = .ok (.iload_n 3, 1) := dk_29 (dk_at dksX8_planed_1 20 rfl rfl)
theorem dX8_planed_45 : decode cX8_planed 45 = .ok (.iadd, 1) := dk_96 (dk_at dksX8_planed_1 21 rfl rfl)
theorem dX8_planed_46 : decode cX8_planed 46 = .ok (.iaload, 1) := dk_46 (dk_at dksX8_planed_1 22 rfl rfl)
theorem dX8_planed_47 : decode cX8_planed 47 = .ok (.iload_n 1, 1) := dk_27 (dk_at dksX8_planed_1 23 rfl rfl)
theorem dX8_planed_48 : decode cX8_planed 48 = .ok (.if_icmp .ne 42, 3) := dk_160 0 42 (dk_at dksX8_planed_2 0 rfl rfl)
theorem dX8_planed_51 : decode cX8_planed 51 = .ok (.aload_n 0, 1) := dk_42 (dk_at dksX8_planed_2 3 rfl rfl)
theorem dX8_planed_52 : decode cX8_planed 52 = .ok (.getfield 74, 3) := dk_180 0 74 (dk_at dksX8_planed_2 4 rfl rfl)
theorem dX8_planed_55 : decode cX8_planed 55 = .ok (.bipush 21, 2) := dk_16 21 (dk_at dksX8_planed_2 7 rfl rfl)
theorem dX8_planed_57 : decode cX8_planed 57 = .ok (.iload_n 3, 1) := dk_29 (dk_at dksX8_planed_2 9 rfl rfl)
theorem dX8_planed_58 : decode cX8_planed 58 = .ok (.iadd, 1) := dk_96 (dk_at dksX8_planed_2 10 rfl rfl)
theorem dX8_planed_59 : decode cX8_planed 59 = .ok (.iaload, 1) := dk_46 (dk_at dksX8_planed_2 11 rfl rfl)
theorem dX8_planed_60 : decode cX8_planed 60 = .ok (.aload_n 0, 1) := dk_42 (dk_at dksX8_planed_2 12 rfl rfl)
theorem dX8_planed_61 : decode cX8_planed 61 = .ok (.getfield 74, 3) := dk_180 0 74 (dk_at dksX8_planed_2 13 rfl rfl)
theorem dX8_planed_64 : decode cX8_planed 64 = .ok (.bipush 42, 2) := dk_16 42 (dk_at dksX8_planed_2 16 rfl rfl)
theorem dX8_planed_66 : decode cX8_planed 66 = .ok (.iload_n 1, 1) := dk_27 (dk_at dksX8_planed_2 18 rfl rfl)
theorem dX8_planed_67 : decode cX8_planed 67 = .ok (.iadd, 1) := dk_96 (dk_at dksX8_planed_2 19 rfl rfl)
theorem dX8_planed_68 : decode cX8_planed 68 = .ok (.iaload, 1) := dk_46 (dk_at dksX8_planed_2 20 rfl rfl)
theorem dX8_planed_69 : decode cX8_planed 69 = .ok (.if_icmp .le 21, 3) := dk_164 0 21 (dk_at dksX8_planed_2 21 rfl rfl)
theorem dX8_planed_72 : decode cX8_planed 72 = .ok (.aload_n 0, 1) := dk_42 (dk_at dksX8_planed_3 0 rfl rfl)
theorem dX8_planed_73 : decode cX8_planed 73 = .ok (.getfield 74, 3) := dk_180 0 74 (dk_at dksX8_planed_3 1 rfl rfl)
theorem dX8_planed_76 : decode cX8_planed 76 = .ok (.bipush 21, 2) := dk_16 21 (dk_at dksX8_planed_3 4 rfl rfl)
theorem dX8_planed_78 : decode cX8_planed 78 = .ok (.iload_n 3, 1) := dk_29 (dk_at dksX8_planed_3 6 rfl rfl)
theorem dX8_planed_79 : decode cX8_planed 79 = .ok (.iadd, 1) := dk_96 (dk_at dksX8_planed_3 7 rfl rfl)
theorem dX8_planed_80 : decode cX8_planed 80 = .ok (.aload_n 0, 1) := dk_42 (dk_at dksX8_planed_3 8 rfl rfl)
theorem dX8_planed_81 : decode cX8_planed 81 = .ok (.getfield 74, 3) := dk_180 0 74 (dk_at dksX8_planed_3 9 rfl rfl)
theorem dX8_planed_84 : decode cX8_planed 84 = .ok (.bipush 42, 2) := dk_16 42 (dk_at dksX8_planed_3 12 rfl rfl)
theorem dX8_planed_86 : decode cX8_planed 86 = .ok (.iload_n 1, 1) := dk_27 (dk_at dksX8_planed_3 14 rfl rfl)
theorem dX8_planed_87 : decode cX8_planed 87 = .ok (.iadd, 1) := dk_96 (dk_at dksX8_planed_3 15 rfl rfl)
theorem dX8_planed_88 : decode cX8_planed 88 = .ok (.iaload, 1) := dk_46 (dk_at dksX8_planed_3 16 rfl rfl)
theorem dX8_planed_89 : decode cX8_planed 89 = .ok (.iastore, 1) := dk_79 (dk_at dksX8_planed_3 17 rfl rfl)
theorem dX8_planed_90 : decode cX8_planed 90 = .ok (.iinc 3 1, 3) := dk_132 3 1 (dk_at dksX8_planed_3 18 rfl rfl)
theorem dX8_planed_93 : decode cX8_planed 93 = .ok (.goto (-63), 3) := dk_167 255 193 (dk_at dksX8_planed_3 21 rfl rfl)
theorem dX8_planed_96 : decode cX8_planed 96 = .ok (.iconst 1, 1) := dk_4 (dk_at dksX8_planed_4 0 rfl rfl)
theorem dX8_planed_97 : decode cX8_planed 97 = .ok (.ireturn, 1) := dk_172 (dk_at dksX8_planed_4 1 rfl rfl)
abbrev cX8_goesOn : ByteArray := prog_24_method_52_code
def yX8_goesOn : MethodName := ⟨RX8, "goesOn", "()V"⟩
def dkwX8_goesOn_5 : List UInt8 := [4, 96, 79, 177]
abbrev dktX8_goesOn_5 : List UInt8 := dkwX8_goesOn_5 ++ []
def dkwX8_goesOn_4 : List UInt8 := [42, 27, 182, 1, 103, 96, 184, 1, 100, 79, 132, 1, 1, 167, 255, 218, 42, 180, 0, 74, 16, 49, 92, 46]
abbrev dktX8_goesOn_4 : List UInt8 := dkwX8_goesOn_4 ++ dktX8_goesOn_5
def dkwX8_goesOn_3 : List UInt8 := [42, 180, 0, 176, 162, 0, 36, 42, 180, 0, 74, 16, 42, 27, 96, 42, 180, 0, 74, 16, 42, 27, 96, 46]
abbrev dktX8_goesOn_3 : List UInt8 := dkwX8_goesOn_3 ++ dktX8_goesOn_4
def dkwX8_goesOn_2 : List UInt8 := [3, 27, 96, 46, 42, 180, 0, 80, 27, 46, 96, 184, 1, 100, 79, 132, 1, 1, 167, 255, 219, 3, 60, 27]
abbrev dktX8_goesOn_2 : List UInt8 := dkwX8_goesOn_2 ++ dktX8_goesOn_3
def dkwX8_goesOn_1 : List UInt8 := [167, 255, 234, 3, 60, 27, 42, 180, 0, 179, 162, 0, 35, 42, 180, 0, 74, 3, 27, 96, 42, 180, 0, 74]
abbrev dktX8_goesOn_1 : List UInt8 := dkwX8_goesOn_1 ++ dktX8_goesOn_2
def dkwX8_goesOn_0 : List UInt8 := [3, 60, 27, 42, 180, 0, 179, 162, 0, 20, 42, 180, 0, 80, 27, 42, 27, 182, 1, 97, 79, 132, 1, 1]
abbrev dktX8_goesOn_0 : List UInt8 := dkwX8_goesOn_0 ++ dktX8_goesOn_1
theorem dksX8_goesOn_0 : cX8_goesOn.data.toList.drop 0 = dktX8_goesOn_0 := by decide +kernel
theorem dksX8_goesOn_1 : cX8_goesOn.data.toList.drop 24 = dktX8_goesOn_1 := dk_seg dksX8_goesOn_0 24 rfl rfl
theorem dksX8_goesOn_2 : cX8_goesOn.data.toList.drop 48 = dktX8_goesOn_2 := dk_seg dksX8_goesOn_1 24 rfl rfl
theorem dksX8_goesOn_3 : cX8_goesOn.data.toList.drop 72 = dktX8_goesOn_3 := dk_seg dksX8_goesOn_2 24 rfl rfl
theorem dksX8_goesOn_4 : cX8_goesOn.data.toList.drop 96 = dktX8_goesOn_4 := dk_seg dksX8_goesOn_3 24 rfl rfl
theorem dksX8_goesOn_5 : cX8_goesOn.data.toList.drop 120 = dktX8_goesOn_5 := dk_seg dksX8_goesOn_4 24 rfl rfl
theorem dX8_goesOn_0 : decode cX8_goesOn 0 = .ok (.iconst 0, 1) := dk_3 (dk_at dksX8_goesOn_0 0 rfl rfl)
theorem dX8_goesOn_1 : decode cX8_goesOn 1 = .ok (.istore_n 1, 1) := dk_60 (dk_at dksX8_goesOn_0 1 rfl rfl)
theorem dX8_goesOn_2 : decode cX8_goesOn 2 = .ok (.iload_n 1, 1) := dk_27 (dk_at dksX8_goesOn_0 2 rfl rfl)
theorem dX8_goesOn_3 : decode cX8_goesOn 3 = .ok (.aload_n 0, 1) := dk_42 (dk_at dksX8_goesOn_0 3 rfl rfl)
theorem dX8_goesOn_4 : decode cX8_goesOn 4 = .ok (.getfield 179, 3) := dk_180 0 179 (dk_at dksX8_goesOn_0 4 rfl rfl)
theorem dX8_goesOn_7 : decode cX8_goesOn 7 = .ok (.if_icmp .ge 20, 3) := dk_162 0 20 (dk_at dksX8_goesOn_0 7 rfl rfl)
theorem dX8_goesOn_10 : decode cX8_goesOn 10 = .ok (.aload_n 0, 1) := dk_42 (dk_at dksX8_goesOn_0 10 rfl rfl)
theorem dX8_goesOn_11 : decode cX8_goesOn 11 = .ok (.getfield 80, 3) := dk_180 0 80 (dk_at dksX8_goesOn_0 11 rfl rfl)
theorem dX8_goesOn_14 : decode cX8_goesOn 14 = .ok (.iload_n 1, 1) := dk_27 (dk_at dksX8_goesOn_0 14 rfl rfl)
theorem dX8_goesOn_15 : decode cX8_goesOn 15 = .ok (.aload_n 0, 1) := dk_42 (dk_at dksX8_goesOn_0 15 rfl rfl)
theorem dX8_goesOn_16 : decode cX8_goesOn 16 = .ok (.iload_n 1, 1) := dk_27 (dk_at dksX8_goesOn_0 16 rfl rfl)
theorem dX8_goesOn_17 : decode cX8_goesOn 17 = .ok (.invokevirtual 353, 3) := dk_182 1 97 (dk_at dksX8_goesOn_0 17 rfl rfl)
theorem dX8_goesOn_20 : decode cX8_goesOn 20 = .ok (.iastore, 1) := dk_79 (dk_at dksX8_goesOn_0 20 rfl rfl)
theorem dX8_goesOn_21 : decode cX8_goesOn 21 = .ok (.iinc 1 1, 3) := dk_132 1 1 (dk_at dksX8_goesOn_0 21 rfl rfl)
theorem dX8_goesOn_24 : decode cX8_goesOn 24 = .ok (.goto (-22), 3) := dk_167 255 234 (dk_at dksX8_goesOn_1 0 rfl rfl)
theorem dX8_goesOn_27 : decode cX8_goesOn 27 = .ok (.iconst 0, 1) := dk_3 (dk_at dksX8_goesOn_1 3 rfl rfl)
theorem dX8_goesOn_28 : decode cX8_goesOn 28 = .ok (.istore_n 1, 1) := dk_60 (dk_at dksX8_goesOn_1 4 rfl rfl)
theorem dX8_goesOn_29 : decode cX8_goesOn 29 = .ok (.iload_n 1, 1) := dk_27 (dk_at dksX8_goesOn_1 5 rfl rfl)
theorem dX8_goesOn_30 : decode cX8_goesOn 30 = .ok (.aload_n 0, 1) := dk_42 (dk_at dksX8_goesOn_1 6 rfl rfl)
theorem dX8_goesOn_31 : decode cX8_goesOn 31 = .ok (.getfield 179, 3) := dk_180 0 179 (dk_at dksX8_goesOn_1 7 rfl rfl)
theorem dX8_goesOn_34 : decode cX8_goesOn 34 = .ok (.if_icmp .ge 35, 3) := dk_162 0 35 (dk_at dksX8_goesOn_1 10 rfl rfl)
theorem dX8_goesOn_37 : decode cX8_goesOn 37 = .ok (.aload_n 0, 1) := dk_42 (dk_at dksX8_goesOn_1 13 rfl rfl)
theorem dX8_goesOn_38 : decode cX8_goesOn 38 = .ok (.getfield 74, 3) := dk_180 0 74 (dk_at dksX8_goesOn_1 14 rfl rfl)
theorem dX8_goesOn_41 : decode cX8_goesOn 41 = .ok (.iconst 0, 1) := dk_3 (dk_at dksX8_goesOn_1 17 rfl rfl)
theorem dX8_goesOn_42 : decode cX8_goesOn 42 = .ok (.iload_n 1, 1) := dk_27 (dk_at dksX8_goesOn_1 18 rfl rfl)
theorem dX8_goesOn_43 : decode cX8_goesOn 43 = .ok (.iadd, 1) := dk_96 (dk_at dksX8_goesOn_1 19 rfl rfl)
theorem dX8_goesOn_44 : decode cX8_goesOn 44 = .ok (.aload_n 0, 1) := dk_42 (dk_at dksX8_goesOn_1 20 rfl rfl)
theorem dX8_goesOn_45 : decode cX8_goesOn 45 = .ok (.getfield 74, 3) := dk_180 0 74 (dk_at dksX8_goesOn_1 21 rfl rfl)
theorem dX8_goesOn_48 : decode cX8_goesOn 48 = .ok (.iconst 0, 1) := dk_3 (dk_at dksX8_goesOn_2 0 rfl rfl)
theorem dX8_goesOn_49 : decode cX8_goesOn 49 = .ok (.iload_n 1, 1) := dk_27 (dk_at dksX8_goesOn_2 1 rfl rfl)
theorem dX8_goesOn_50 : decode cX8_goesOn 50 = .ok (.iadd, 1) := dk_96 (dk_at dksX8_goesOn_2 2 rfl rfl)
theorem dX8_goesOn_51 : decode cX8_goesOn 51 = .ok (.iaload, 1) := dk_46 (dk_at dksX8_goesOn_2 3 rfl rfl)
theorem dX8_goesOn_52 : decode cX8_goesOn 52 = .ok (.aload_n 0, 1) := dk_42 (dk_at dksX8_goesOn_2 4 rfl rfl)
theorem dX8_goesOn_53 : decode cX8_goesOn 53 = .ok (.getfield 80, 3) := dk_180 0 80 (dk_at dksX8_goesOn_2 5 rfl rfl)
theorem dX8_goesOn_56 : decode cX8_goesOn 56 = .ok (.iload_n 1, 1) := dk_27 (dk_at dksX8_goesOn_2 8 rfl rfl)
theorem dX8_goesOn_57 : decode cX8_goesOn 57 = .ok (.iaload, 1) := dk_46 (dk_at dksX8_goesOn_2 9 rfl rfl)
theorem dX8_goesOn_58 : decode cX8_goesOn 58 = .ok (.iadd, 1) := dk_96 (dk_at dksX8_goesOn_2 10 rfl rfl)
theorem dX8_goesOn_59 : decode cX8_goesOn 59 = .ok (.invokestatic 356, 3) := dk_184 1 100 (dk_at dksX8_goesOn_2 11 rfl rfl)
theorem dX8_goesOn_62 : decode cX8_goesOn 62 = .ok (.iastore, 1) := dk_79 (dk_at dksX8_goesOn_2 14 rfl rfl)
theorem dX8_goesOn_63 : decode cX8_goesOn 63 = .ok (.iinc 1 1, 3) := dk_132 1 1 (dk_at dksX8_goesOn_2 15 rfl rfl)
theorem dX8_goesOn_66 : decode cX8_goesOn 66 = .ok (.goto (-37), 3) := dk_167 255 219 (dk_at dksX8_goesOn_2 18 rfl rfl)
theorem dX8_goesOn_69 : decode cX8_goesOn 69 = .ok (.iconst 0, 1) := dk_3 (dk_at dksX8_goesOn_2 21 rfl rfl)
theorem dX8_goesOn_70 : decode cX8_goesOn 70 = .ok (.istore_n 1, 1) := dk_60 (dk_at dksX8_goesOn_2 22 rfl rfl)
theorem dX8_goesOn_71 : decode cX8_goesOn 71 = .ok (.iload_n 1, 1) := dk_27 (dk_at dksX8_goesOn_2 23 rfl rfl)
theorem dX8_goesOn_72 : decode cX8_goesOn 72 = .ok (.aload_n 0, 1) := dk_42 (dk_at dksX8_goesOn_3 0 rfl rfl)
theorem dX8_goesOn_73 : decode cX8_goesOn 73 = .ok (.getfield 176, 3) := dk_180 0 176 (dk_at dksX8_goesOn_3 1 rfl rfl)
theorem dX8_goesOn_76 : decode cX8_goesOn 76 = .ok (.if_icmp .ge 36, 3) := dk_162 0 36 (dk_at dksX8_goesOn_3 4 rfl rfl)
theorem dX8_goesOn_79 : decode cX8_goesOn 79 = .ok (.aload_n 0, 1) := dk_42 (dk_at dksX8_goesOn_3 7 rfl rfl)
theorem dX8_goesOn_80 : decode cX8_goesOn 80 = .ok (.getfield 74, 3) := dk_180 0 74 (dk_at dksX8_goesOn_3 8 rfl rfl)
theorem dX8_goesOn_83 : decode cX8_goesOn 83 = .ok (.bipush 42, 2) := dk_16 42 (dk_at dksX8_goesOn_3 11 rfl rfl)
theorem dX8_goesOn_85 : decode cX8_goesOn 85 = .ok (.iload_n 1, 1) := dk_27 (dk_at dksX8_goesOn_3 13 rfl rfl)
theorem dX8_goesOn_86 : decode cX8_goesOn 86 = .ok (.iadd, 1) := dk_96 (dk_at dksX8_goesOn_3 14 rfl rfl)
theorem dX8_goesOn_87 : decode cX8_goesOn 87 = .ok (.aload_n 0, 1) := dk_42 (dk_at dksX8_goesOn_3 15 rfl rfl)
theorem dX8_goesOn_88 : decode cX8_goesOn 88 = .ok (.getfield 74, 3) := dk_180 0 74 (dk_at dksX8_goesOn_3 16 rfl rfl)
theorem dX8_goesOn_91 : decode cX8_goesOn 91 = .ok (.bipush 42, 2) := dk_16 42 (dk_at dksX8_goesOn_3 19 rfl rfl)
theorem dX8_goesOn_93 : decode cX8_goesOn 93 = .ok (.iload_n 1, 1) := dk_27 (dk_at dksX8_goesOn_3 21 rfl rfl)
theorem dX8_goesOn_94 : decode cX8_goesOn 94 = .ok (.iadd, 1) := dk_96 (dk_at dksX8_goesOn_3 22 rfl rfl)
theorem dX8_goesOn_95 : decode cX8_goesOn 95 = .ok (.iaload, 1) := dk_46 (dk_at dksX8_goesOn_3 23 rfl rfl)
theorem dX8_goesOn_96 : decode cX8_goesOn 96 = .ok (.aload_n 0, 1) := dk_42 (dk_at dksX8_goesOn_4 0 rfl rfl)
theorem dX8_goesOn_97 : decode cX8_goesOn 97 = .ok (.iload_n 1, 1) := dk_27 (dk_at dksX8_goesOn_4 1 rfl rfl)
theorem dX8_goesOn_98 : decode cX8_goesOn 98 = .ok (.invokevirtual 359, 3) := dk_182 1 103 (dk_at dksX8_goesOn_4 2 rfl rfl)
theorem dX8_goesOn_101 : decode cX8_goesOn 101 = .ok (.iadd, 1) := dk_96 (dk_at dksX8_goesOn_4 5 rfl rfl)
theorem dX8_goesOn_102 : decode cX8_goesOn 102 = .ok (.invokestatic 356, 3) := dk_184 1 100 (dk_at dksX8_goesOn_4 6 rfl rfl)
theorem dX8_goesOn_105 : decode cX8_goesOn 105 = .ok (.iastore, 1) := dk_79 (dk_at dksX8_goesOn_4 9 rfl rfl)
theorem dX8_goesOn_106 : decode cX8_goesOn 106 = .ok (.iinc 1 1, 3) := dk_132 1 1 (dk_at dksX8_goesOn_4 10 rfl rfl)
theorem dX8_goesOn_109 : decode cX8_goesOn 109 = .ok (.goto (-38), 3) := dk_167 255 218 (dk_at dksX8_goesOn_4 13 rfl rfl)
theorem dX8_goesOn_112 : decode cX8_goesOn 112 = .ok (.aload_n 0, 1) := dk_42 (dk_at dksX8_goesOn_4 16 rfl rfl)
theorem dX8_goesOn_113 : decode cX8_goesOn 113 = .ok (.getfield 74, 3) := dk_180 0 74 (dk_at dksX8_goesOn_4 17 rfl rfl)
theorem dX8_goesOn_116 : decode cX8_goesOn 116 = .ok (.bipush 49, 2) := dk_16 49 (dk_at dksX8_goesOn_4 20 rfl rfl)
theorem dX8_goesOn_118 : decode cX8_goesOn 118 = .ok (.dup2, 1) := dk_92 (dk_at dksX8_goesOn_4 22 rfl rfl)
theorem dX8_goesOn_119 : decode cX8_goesOn 119 = .ok (.iaload, 1) := dk_46 (dk_at dksX8_goesOn_4 23 rfl rfl)
theorem dX8_goesOn_120 : decode cX8_goesOn 120 = .ok (.iconst 1, 1) := dk_4 (dk_at dksX8_goesOn_5 0 rfl rfl)
theorem dX8_goesOn_121 : decode cX8_goesOn 121 = .ok (.iadd, 1) := dk_96 (dk_at dksX8_goesOn_5 1 rfl rfl)
theorem dX8_goesOn_122 : decode cX8_goesOn 122 = .ok (.iastore, 1) := dk_79 (dk_at dksX8_goesOn_5 2 rfl rfl)
theorem dX8_goesOn_123 : decode cX8_goesOn 123 = .ok (.return_, 1) := dk_177 (dk_at dksX8_goesOn_5 3 rfl rfl)
abbrev cX8_growsBy : ByteArray := prog_24_method_49_code
def yX8_growsBy : MethodName := ⟨RX8, "growsBy", "(I)I"⟩
def dkwX8_growsBy_4 : List UInt8 := [16, 12, 112, 42, 42, 180, 0, 176, 182, 1, 78, 27, 182, 1, 93, 172]
abbrev dktX8_growsBy_4 : List UInt8 := dkwX8_growsBy_4 ++ []
def dkwX8_growsBy_3 : List UInt8 := [180, 0, 74, 3, 27, 96, 46, 28, 42, 182, 1, 87, 42, 27, 182, 1, 90, 42, 180, 0, 74, 16, 49, 46]
abbrev dktX8_growsBy_3 : List UInt8 := dkwX8_growsBy_3 ++ dktX8_growsBy_4
def dkwX8_growsBy_2 : List UInt8 := [167, 0, 4, 3, 96, 61, 132, 3, 1, 167, 255, 204, 42, 42, 180, 0, 74, 16, 7, 27, 96, 46, 42]
abbrev dktX8_growsBy_2 : List UInt8 := dkwX8_growsBy_2 ++ dktX8_growsBy_3
def dkwX8_growsBy_1 : List UInt8 := [160, 0, 26, 42, 180, 0, 74, 3, 29, 96, 46, 42, 180, 0, 74, 3, 27, 96, 46, 164, 0, 7, 4]
abbrev dktX8_growsBy_1 : List UInt8 := dkwX8_growsBy_1 ++ dktX8_growsBy_2
def dkwX8_growsBy_0 : List UInt8 := [3, 61, 3, 62, 29, 42, 180, 0, 179, 162, 0, 50, 28, 42, 180, 0, 41, 27, 46, 29, 122, 4, 126, 4]
abbrev dktX8_growsBy_0 : List UInt8 := dkwX8_growsBy_0 ++ dktX8_growsBy_1
theorem dksX8_growsBy_0 : cX8_growsBy.data.toList.drop 0 = dktX8_growsBy_0 := by decide +kernel
theorem dksX8_growsBy_1 : cX8_growsBy.data.toList.drop 24 = dktX8_growsBy_1 := dk_seg dksX8_growsBy_0 24 rfl rfl
theorem dksX8_growsBy_2 : cX8_growsBy.data.toList.drop 47 = dktX8_growsBy_2 := dk_seg dksX8_growsBy_1 23 rfl rfl
theorem dksX8_growsBy_3 : cX8_growsBy.data.toList.drop 70 = dktX8_growsBy_3 := dk_seg dksX8_growsBy_2 23 rfl rfl
theorem dksX8_growsBy_4 : cX8_growsBy.data.toList.drop 94 = dktX8_growsBy_4 := dk_seg dksX8_growsBy_3 24 rfl rfl
theorem dX8_growsBy_0 : decode cX8_growsBy 0 = .ok (.iconst 0, 1) := dk_3 (dk_at dksX8_growsBy_0 0 rfl rfl)
theorem dX8_growsBy_1 : decode cX8_growsBy 1 = .ok (.istore_n 2, 1) := dk_61 (dk_at dksX8_growsBy_0 1 rfl rfl)
theorem dX8_growsBy_2 : decode cX8_growsBy 2 = .ok (.iconst 0, 1) := dk_3 (dk_at dksX8_growsBy_0 2 rfl rfl)
theorem dX8_growsBy_3 : decode cX8_growsBy 3 = .ok (.istore_n 3, 1) := dk_62 (dk_at dksX8_growsBy_0 3 rfl rfl)
theorem dX8_growsBy_4 : decode cX8_growsBy 4 = .ok (.iload_n 3, 1) := dk_29 (dk_at dksX8_growsBy_0 4 rfl rfl)
theorem dX8_growsBy_5 : decode cX8_growsBy 5 = .ok (.aload_n 0, 1) := dk_42 (dk_at dksX8_growsBy_0 5 rfl rfl)
theorem dX8_growsBy_6 : decode cX8_growsBy 6 = .ok (.getfield 179, 3) := dk_180 0 179 (dk_at dksX8_growsBy_0 6 rfl rfl)
theorem dX8_growsBy_9 : decode cX8_growsBy 9 = .ok (.if_icmp .ge 50, 3) := dk_162 0 50 (dk_at dksX8_growsBy_0 9 rfl rfl)
theorem dX8_growsBy_12 : decode cX8_growsBy 12 = .ok (.iload_n 2, 1) := dk_28 (dk_at dksX8_growsBy_0 12 rfl rfl)
theorem dX8_growsBy_13 : decode cX8_growsBy 13 = .ok (.aload_n 0, 1) := dk_42 (dk_at dksX8_growsBy_0 13 rfl rfl)
theorem dX8_growsBy_14 : decode cX8_growsBy 14 = .ok (.getfield 41, 3) := dk_180 0 41 (dk_at dksX8_growsBy_0 14 rfl rfl)
theorem dX8_growsBy_17 : decode cX8_growsBy 17 = .ok (.iload_n 1, 1) := dk_27 (dk_at dksX8_growsBy_0 17 rfl rfl)
theorem dX8_growsBy_18 : decode cX8_growsBy 18 = .ok (.iaload, 1) := dk_46 (dk_at dksX8_growsBy_0 18 rfl rfl)
theorem dX8_growsBy_19 : decode cX8_growsBy 19 = .ok (.iload_n 3, 1) := dk_29 (dk_at dksX8_growsBy_0 19 rfl rfl)
theorem dX8_growsBy_20 : decode cX8_growsBy 20 = .ok (.ishr, 1) := dk_122 (dk_at dksX8_growsBy_0 20 rfl rfl)
theorem dX8_growsBy_21 : decode cX8_growsBy 21 = .ok (.iconst 1, 1) := dk_4 (dk_at dksX8_growsBy_0 21 rfl rfl)
theorem dX8_growsBy_22 : decode cX8_growsBy 22 = .ok (.iand, 1) := dk_126 (dk_at dksX8_growsBy_0 22 rfl rfl)
theorem dX8_growsBy_23 : decode cX8_growsBy 23 = .ok (.iconst 1, 1) := dk_4 (dk_at dksX8_growsBy_0 23 rfl rfl)
theorem dX8_growsBy_24 : decode cX8_growsBy 24 = .ok (.if_icmp .ne 26, 3) := dk_160 0 26 (dk_at dksX8_growsBy_1 0 rfl rfl)
theorem dX8_growsBy_27 : decode cX8_growsBy 27 = .ok (.aload_n 0, 1) := dk_42 (dk_at dksX8_growsBy_1 3 rfl rfl)
theorem dX8_growsBy_28 : decode cX8_growsBy 28 = .ok (.getfield 74, 3) := dk_180 0 74 (dk_at dksX8_growsBy_1 4 rfl rfl)
theorem dX8_growsBy_31 : decode cX8_growsBy 31 = .ok (.iconst 0, 1) := dk_3 (dk_at dksX8_growsBy_1 7 rfl rfl)
theorem dX8_growsBy_32 : decode cX8_growsBy 32 = .ok (.iload_n 3, 1) := dk_29 (dk_at dksX8_growsBy_1 8 rfl rfl)
theorem dX8_growsBy_33 : decode cX8_growsBy 33 = .ok (.iadd, 1) := dk_96 (dk_at dksX8_growsBy_1 9 rfl rfl)
theorem dX8_growsBy_34 : decode cX8_growsBy 34 = .ok (.iaload, 1) := dk_46 (dk_at dksX8_growsBy_1 10 rfl rfl)
theorem dX8_growsBy_35 : decode cX8_growsBy 35 = .ok (.aload_n 0, 1) := dk_42 (dk_at dksX8_growsBy_1 11 rfl rfl)
theorem dX8_growsBy_36 : decode cX8_growsBy 36 = .ok (.getfield 74, 3) := dk_180 0 74 (dk_at dksX8_growsBy_1 12 rfl rfl)
theorem dX8_growsBy_39 : decode cX8_growsBy 39 = .ok (.iconst 0, 1) := dk_3 (dk_at dksX8_growsBy_1 15 rfl rfl)
theorem dX8_growsBy_40 : decode cX8_growsBy 40 = .ok (.iload_n 1, 1) := dk_27 (dk_at dksX8_growsBy_1 16 rfl rfl)
theorem dX8_growsBy_41 : decode cX8_growsBy 41 = .ok (.iadd, 1) := dk_96 (dk_at dksX8_growsBy_1 17 rfl rfl)
theorem dX8_growsBy_42 : decode cX8_growsBy 42 = .ok (.iaload, 1) := dk_46 (dk_at dksX8_growsBy_1 18 rfl rfl)
theorem dX8_growsBy_43 : decode cX8_growsBy 43 = .ok (.if_icmp .le 7, 3) := dk_164 0 7 (dk_at dksX8_growsBy_1 19 rfl rfl)
theorem dX8_growsBy_46 : decode cX8_growsBy 46 = .ok (.iconst 1, 1) := dk_4 (dk_at dksX8_growsBy_1 22 rfl rfl)
theorem dX8_growsBy_47 : decode cX8_growsBy 47 = .ok (.goto 4, 3) := dk_167 0 4 (dk_at dksX8_growsBy_2 0 rfl rfl)
theorem dX8_growsBy_50 : decode cX8_growsBy 50 = .ok (.iconst 0, 1) := dk_3 (dk_at dksX8_growsBy_2 3 rfl rfl)
theorem dX8_growsBy_51 : decode cX8_growsBy 51 = .ok (.iadd, 1) := dk_96 (dk_at dksX8_growsBy_2 4 rfl rfl)
theorem dX8_growsBy_52 : decode cX8_growsBy 52 = .ok (.istore_n 2, 1) := dk_61 (dk_at dksX8_growsBy_2 5 rfl rfl)
theorem dX8_growsBy_53 : decode cX8_growsBy 53 = .ok (.iinc 3 1, 3) := dk_132 3 1 (dk_at dksX8_growsBy_2 6 rfl rfl)
theorem dX8_growsBy_56 : decode cX8_growsBy 56 = .ok (.goto (-52), 3) := dk_167 255 204 (dk_at dksX8_growsBy_2 9 rfl rfl)
theorem dX8_growsBy_59 : decode cX8_growsBy 59 = .ok (.aload_n 0, 1) := dk_42 (dk_at dksX8_growsBy_2 12 rfl rfl)
theorem dX8_growsBy_60 : decode cX8_growsBy 60 = .ok (.aload_n 0, 1) := dk_42 (dk_at dksX8_growsBy_2 13 rfl rfl)
theorem dX8_growsBy_61 : decode cX8_growsBy 61 = .ok (.getfield 74, 3) := dk_180 0 74 (dk_at dksX8_growsBy_2 14 rfl rfl)
theorem dX8_growsBy_64 : decode cX8_growsBy 64 = .ok (.bipush 7, 2) := dk_16 7 (dk_at dksX8_growsBy_2 17 rfl rfl)
theorem dX8_growsBy_66 : decode cX8_growsBy 66 = .ok (.iload_n 1, 1) := dk_27 (dk_at dksX8_growsBy_2 19 rfl rfl)
theorem dX8_growsBy_67 : decode cX8_growsBy 67 = .ok (.iadd, 1) := dk_96 (dk_at dksX8_growsBy_2 20 rfl rfl)
theorem dX8_growsBy_68 : decode cX8_growsBy 68 = .ok (.iaload, 1) := dk_46 (dk_at dksX8_growsBy_2 21 rfl rfl)
theorem dX8_growsBy_69 : decode cX8_growsBy 69 = .ok (.aload_n 0, 1) := dk_42 (dk_at dksX8_growsBy_2 22 rfl rfl)
theorem dX8_growsBy_70 : decode cX8_growsBy 70 = .ok (.getfield 74, 3) := dk_180 0 74 (dk_at dksX8_growsBy_3 0 rfl rfl)
theorem dX8_growsBy_73 : decode cX8_growsBy 73 = .ok (.iconst 0, 1) := dk_3 (dk_at dksX8_growsBy_3 3 rfl rfl)
theorem dX8_growsBy_74 : decode cX8_growsBy 74 = .ok (.iload_n 1, 1) := dk_27 (dk_at dksX8_growsBy_3 4 rfl rfl)
theorem dX8_growsBy_75 : decode cX8_growsBy 75 = .ok (.iadd, 1) := dk_96 (dk_at dksX8_growsBy_3 5 rfl rfl)
theorem dX8_growsBy_76 : decode cX8_growsBy 76 = .ok (.iaload, 1) := dk_46 (dk_at dksX8_growsBy_3 6 rfl rfl)
theorem dX8_growsBy_77 : decode cX8_growsBy 77 = .ok (.iload_n 2, 1) := dk_28 (dk_at dksX8_growsBy_3 7 rfl rfl)
theorem dX8_growsBy_78 : decode cX8_growsBy 78 = .ok (.aload_n 0, 1) := dk_42 (dk_at dksX8_growsBy_3 8 rfl rfl)
theorem dX8_growsBy_79 : decode cX8_growsBy 79 = .ok (.invokevirtual 343, 3) := dk_182 1 87 (dk_at dksX8_growsBy_3 9 rfl rfl)
theorem dX8_growsBy_82 : decode cX8_growsBy 82 = .ok (.aload_n 0, 1) := dk_42 (dk_at dksX8_growsBy_3 12 rfl rfl)
theorem dX8_growsBy_83 : decode cX8_growsBy 83 = .ok (.iload_n 1, 1) := dk_27 (dk_at dksX8_growsBy_3 13 rfl rfl)
theorem dX8_growsBy_84 : decode cX8_growsBy 84 = .ok (.invokevirtual 346, 3) := dk_182 1 90 (dk_at dksX8_growsBy_3 14 rfl rfl)
theorem dX8_growsBy_87 : decode cX8_growsBy 87 = .ok (.aload_n 0, 1) := dk_42 (dk_at dksX8_growsBy_3 17 rfl rfl)
theorem dX8_growsBy_88 : decode cX8_growsBy 88 = .ok (.getfield 74, 3) := dk_180 0 74 (dk_at dksX8_growsBy_3 18 rfl rfl)
theorem dX8_growsBy_91 : decode cX8_growsBy 91 = .ok (.bipush 49, 2) := dk_16 49 (dk_at dksX8_growsBy_3 21 rfl rfl)
theorem dX8_growsBy_93 : decode cX8_growsBy 93 = .ok (.iaload, 1) := dk_46 (dk_at dksX8_growsBy_3 23 rfl rfl)
theorem dX8_growsBy_94 : decode cX8_growsBy 94 = .ok (.bipush 12, 2) := dk_16 12 (dk_at dksX8_growsBy_4 0 rfl rfl)
theorem dX8_growsBy_96 : decode cX8_growsBy 96 = .ok (.irem, 1) := dk_112 (dk_at dksX8_growsBy_4 2 rfl rfl)
theorem dX8_growsBy_97 : decode cX8_growsBy 97 = .ok (.aload_n 0, 1) := dk_42 (dk_at dksX8_growsBy_4 3 rfl rfl)
theorem dX8_growsBy_98 : decode cX8_growsBy 98 = .ok (.aload_n 0, 1) := dk_42 (dk_at dksX8_growsBy_4 4 rfl rfl)
theorem dX8_growsBy_99 : decode cX8_growsBy 99 = .ok (.getfield 176, 3) := dk_180 0 176 (dk_at dksX8_growsBy_4 5 rfl rfl)
theorem dX8_growsBy_102 : decode cX8_growsBy 102 = .ok (.invokevirtual 334, 3) := dk_182 1 78 (dk_at dksX8_growsBy_4 8 rfl rfl)
theorem dX8_growsBy_105 : decode cX8_growsBy 105 = .ok (.iload_n 1, 1) := dk_27 (dk_at dksX8_growsBy_4 11 rfl rfl)
theorem dX8_growsBy_106 : decode cX8_growsBy 106 = .ok (.invokevirtual 349, 3) := dk_182 1 93 (dk_at dksX8_growsBy_4 12 rfl rfl)
theorem dX8_growsBy_109 : decode cX8_growsBy 109 = .ok (.ireturn, 1) := dk_172 (dk_at dksX8_growsBy_4 15 rfl rfl)
abbrev cX8_rainNow : ByteArray := prog_24_method_43_code
def yX8_rainNow : MethodName := ⟨RX8, "rainNow", "()I"⟩
def dkwX8_rainNow_1 : List UInt8 := [167, 0, 7, 42, 180, 0, 83, 172]
abbrev dktX8_rainNow_1 : List UInt8 := dkwX8_rainNow_1 ++ []
def dkwX8_rainNow_0 : List UInt8 := [42, 180, 0, 83, 2, 160, 0, 21, 42, 180, 0, 44, 42, 180, 0, 74, 16, 49, 46, 16, 12, 112, 46]
abbrev dktX8_rainNow_0 : List UInt8 := dkwX8_rainNow_0 ++ dktX8_rainNow_1
theorem dksX8_rainNow_0 : cX8_rainNow.data.toList.drop 0 = dktX8_rainNow_0 := by decide +kernel
theorem dksX8_rainNow_1 : cX8_rainNow.data.toList.drop 23 = dktX8_rainNow_1 := dk_seg dksX8_rainNow_0 23 rfl rfl
theorem dX8_rainNow_0 : decode cX8_rainNow 0 = .ok (.aload_n 0, 1) := dk_42 (dk_at dksX8_rainNow_0 0 rfl rfl)
theorem dX8_rainNow_1 : decode cX8_rainNow 1 = .ok (.getfield 83, 3) := dk_180 0 83 (dk_at dksX8_rainNow_0 1 rfl rfl)
theorem dX8_rainNow_4 : decode cX8_rainNow 4 = .ok (.iconst (-1), 1) := dk_2 (dk_at dksX8_rainNow_0 4 rfl rfl)
theorem dX8_rainNow_5 : decode cX8_rainNow 5 = .ok (.if_icmp .ne 21, 3) := dk_160 0 21 (dk_at dksX8_rainNow_0 5 rfl rfl)
theorem dX8_rainNow_8 : decode cX8_rainNow 8 = .ok (.aload_n 0, 1) := dk_42 (dk_at dksX8_rainNow_0 8 rfl rfl)
theorem dX8_rainNow_9 : decode cX8_rainNow 9 = .ok (.getfield 44, 3) := dk_180 0 44 (dk_at dksX8_rainNow_0 9 rfl rfl)
theorem dX8_rainNow_12 : decode cX8_rainNow 12 = .ok (.aload_n 0, 1) := dk_42 (dk_at dksX8_rainNow_0 12 rfl rfl)
theorem dX8_rainNow_13 : decode cX8_rainNow 13 = .ok (.getfield 74, 3) := dk_180 0 74 (dk_at dksX8_rainNow_0 13 rfl rfl)
theorem dX8_rainNow_16 : decode cX8_rainNow 16 = .ok (.bipush 49, 2) := dk_16 49 (dk_at dksX8_rainNow_0 16 rfl rfl)
theorem dX8_rainNow_18 : decode cX8_rainNow 18 = .ok (.iaload, 1) := dk_46 (dk_at dksX8_rainNow_0 18 rfl rfl)
theorem dX8_rainNow_19 : decode cX8_rainNow 19 = .ok (.bipush 12, 2) := dk_16 12 (dk_at dksX8_rainNow_0 19 rfl rfl)
theorem dX8_rainNow_21 : decode cX8_rainNow 21 = .ok (.irem, 1) := dk_112 (dk_at dksX8_rainNow_0 21 rfl rfl)
theorem dX8_rainNow_22 : decode cX8_rainNow 22 = .ok (.iaload, 1) := dk_46 (dk_at dksX8_rainNow_0 22 rfl rfl)
theorem dX8_rainNow_23 : decode cX8_rainNow 23 = .ok (.goto 7, 3) := dk_167 0 7 (dk_at dksX8_rainNow_1 0 rfl rfl)
theorem dX8_rainNow_26 : decode cX8_rainNow 26 = .ok (.aload_n 0, 1) := dk_42 (dk_at dksX8_rainNow_1 3 rfl rfl)
theorem dX8_rainNow_27 : decode cX8_rainNow 27 = .ok (.getfield 83, 3) := dk_180 0 83 (dk_at dksX8_rainNow_1 4 rfl rfl)
theorem dX8_rainNow_30 : decode cX8_rainNow 30 = .ok (.ireturn, 1) := dk_172 (dk_at dksX8_rainNow_1 7 rfl rfl)
abbrev cX8_gainOf : ByteArray := prog_24_method_46_code
def yX8_gainOf : MethodName := ⟨RX8, "gainOf", "(I)I"⟩
def dkwX8_gainOf_1 : List UInt8 := [46, 42, 27, 182, 1, 81, 100, 172]
abbrev dktX8_gainOf_1 : List UInt8 := dkwX8_gainOf_1 ++ []
def dkwX8_gainOf_0 : List UInt8 := [42, 180, 0, 74, 16, 14, 27, 96, 46, 2, 160, 0, 7, 3, 167, 0, 17, 42, 180, 0, 74, 3, 27, 96]
abbrev dktX8_gainOf_0 : List UInt8 := dkwX8_gainOf_0 ++ dktX8_gainOf_1
theorem dksX8_gainOf_0 : cX8_gainOf.data.toList.drop 0 = dktX8_gainOf_0 := by decide +kernel
theorem dksX8_gainOf_1 : cX8_gainOf.data.toList.drop 24 = dktX8_gainOf_1 := dk_seg dksX8_gainOf_0 24 rfl rfl
theorem dX8_gainOf_0 : decode cX8_gainOf 0 = .ok (.aload_n 0, 1) := dk_42 (dk_at dksX8_gainOf_0 0 rfl rfl)
theorem dX8_gainOf_1 : decode cX8_gainOf 1 = .ok (.getfield 74, 3) := dk_180 0 74 (dk_at dksX8_gainOf_0 1 rfl rfl)
theorem dX8_gainOf_4 : decode cX8_gainOf 4 = .ok (.bipush 14, 2) := dk_16 14 (dk_at dksX8_gainOf_0 4 rfl rfl)
theorem dX8_gainOf_6 : decode cX8_gainOf 6 = .ok (.iload_n 1, 1) := dk_27 (dk_at dksX8_gainOf_0 6 rfl rfl)
theorem dX8_gainOf_7 : decode cX8_gainOf 7 = .ok (.iadd, 1) := dk_96 (dk_at dksX8_gainOf_0 7 rfl rfl)
theorem dX8_gainOf_8 : decode cX8_gainOf 8 = .ok (.iaload, 1) := dk_46 (dk_at dksX8_gainOf_0 8 rfl rfl)
theorem dX8_gainOf_9 : decode cX8_gainOf 9 = .ok (.iconst (-1), 1) := dk_2 (dk_at dksX8_gainOf_0 9 rfl rfl)
theorem dX8_gainOf_10 : decode cX8_gainOf 10 = .ok (.if_icmp .ne 7, 3) := dk_160 0 7 (dk_at dksX8_gainOf_0 10 rfl rfl)
theorem dX8_gainOf_13 : decode cX8_gainOf 13 = .ok (.iconst 0, 1) := dk_3 (dk_at dksX8_gainOf_0 13 rfl rfl)
theorem dX8_gainOf_14 : decode cX8_gainOf 14 = .ok (.goto 17, 3) := dk_167 0 17 (dk_at dksX8_gainOf_0 14 rfl rfl)
theorem dX8_gainOf_17 : decode cX8_gainOf 17 = .ok (.aload_n 0, 1) := dk_42 (dk_at dksX8_gainOf_0 17 rfl rfl)
theorem dX8_gainOf_18 : decode cX8_gainOf 18 = .ok (.getfield 74, 3) := dk_180 0 74 (dk_at dksX8_gainOf_0 18 rfl rfl)
theorem dX8_gainOf_21 : decode cX8_gainOf 21 = .ok (.iconst 0, 1) := dk_3 (dk_at dksX8_gainOf_0 21 rfl rfl)
theorem dX8_gainOf_22 : decode cX8_gainOf 22 = .ok (.iload_n 1, 1) := dk_27 (dk_at dksX8_gainOf_0 22 rfl rfl)
theorem dX8_gainOf_23 : decode cX8_gainOf 23 = .ok (.iadd, 1) := dk_96 (dk_at dksX8_gainOf_0 23 rfl rfl)
theorem dX8_gainOf_24 : decode cX8_gainOf 24 = .ok (.iaload, 1) := dk_46 (dk_at dksX8_gainOf_1 0 rfl rfl)
theorem dX8_gainOf_25 : decode cX8_gainOf 25 = .ok (.aload_n 0, 1) := dk_42 (dk_at dksX8_gainOf_1 1 rfl rfl)
theorem dX8_gainOf_26 : decode cX8_gainOf 26 = .ok (.iload_n 1, 1) := dk_27 (dk_at dksX8_gainOf_1 2 rfl rfl)
theorem dX8_gainOf_27 : decode cX8_gainOf 27 = .ok (.invokevirtual 337, 3) := dk_182 1 81 (dk_at dksX8_gainOf_1 3 rfl rfl)
theorem dX8_gainOf_30 : decode cX8_gainOf 30 = .ok (.isub, 1) := dk_100 (dk_at dksX8_gainOf_1 6 rfl rfl)
theorem dX8_gainOf_31 : decode cX8_gainOf 31 = .ok (.ireturn, 1) := dk_172 (dk_at dksX8_gainOf_1 7 rfl rfl)
abbrev cX8_isAt : ByteArray := prog_24_method_45_code
def yX8_isAt : MethodName := ⟨RX8, "isAt", "(I)I"⟩
def dkwX8_isAt_1 : List UInt8 := [27, 96, 46, 182, 1, 78, 42, 180, 0, 74, 16, 21, 27, 96, 46, 96, 172]
abbrev dktX8_isAt_1 : List UInt8 := dkwX8_isAt_1 ++ []
def dkwX8_isAt_0 : List UInt8 := [42, 180, 0, 74, 16, 14, 27, 96, 46, 2, 160, 0, 7, 3, 167, 0, 26, 42, 42, 180, 0, 74, 16, 14]
abbrev dktX8_isAt_0 : List UInt8 := dkwX8_isAt_0 ++ dktX8_isAt_1
theorem dksX8_isAt_0 : cX8_isAt.data.toList.drop 0 = dktX8_isAt_0 := by decide +kernel
theorem dksX8_isAt_1 : cX8_isAt.data.toList.drop 24 = dktX8_isAt_1 := dk_seg dksX8_isAt_0 24 rfl rfl
theorem dX8_isAt_0 : decode cX8_isAt 0 = .ok (.aload_n 0, 1) := dk_42 (dk_at dksX8_isAt_0 0 rfl rfl)
theorem dX8_isAt_1 : decode cX8_isAt 1 = .ok (.getfield 74, 3) := dk_180 0 74 (dk_at dksX8_isAt_0 1 rfl rfl)
theorem dX8_isAt_4 : decode cX8_isAt 4 = .ok (.bipush 14, 2) := dk_16 14 (dk_at dksX8_isAt_0 4 rfl rfl)
theorem dX8_isAt_6 : decode cX8_isAt 6 = .ok (.iload_n 1, 1) := dk_27 (dk_at dksX8_isAt_0 6 rfl rfl)
theorem dX8_isAt_7 : decode cX8_isAt 7 = .ok (.iadd, 1) := dk_96 (dk_at dksX8_isAt_0 7 rfl rfl)
theorem dX8_isAt_8 : decode cX8_isAt 8 = .ok (.iaload, 1) := dk_46 (dk_at dksX8_isAt_0 8 rfl rfl)
theorem dX8_isAt_9 : decode cX8_isAt 9 = .ok (.iconst (-1), 1) := dk_2 (dk_at dksX8_isAt_0 9 rfl rfl)
theorem dX8_isAt_10 : decode cX8_isAt 10 = .ok (.if_icmp .ne 7, 3) := dk_160 0 7 (dk_at dksX8_isAt_0 10 rfl rfl)
theorem dX8_isAt_13 : decode cX8_isAt 13 = .ok (.iconst 0, 1) := dk_3 (dk_at dksX8_isAt_0 13 rfl rfl)
theorem dX8_isAt_14 : decode cX8_isAt 14 = .ok (.goto 26, 3) := dk_167 0 26 (dk_at dksX8_isAt_0 14 rfl rfl)
theorem dX8_isAt_17 : decode cX8_isAt 17 = .ok (.aload_n 0, 1) := dk_42 (dk_at dksX8_isAt_0 17 rfl rfl)
theorem dX8_isAt_18 : decode cX8_isAt 18 = .ok (.aload_n 0, 1) := dk_42 (dk_at dksX8_isAt_0 18 rfl rfl)
theorem dX8_isAt_19 : decode cX8_isAt 19 = .ok (.getfield 74, 3) := dk_180 0 74 (dk_at dksX8_isAt_0 19 rfl rfl)
theorem dX8_isAt_22 : decode cX8_isAt 22 = .ok (.bipush 14, 2) := dk_16 14 (dk_at dksX8_isAt_0 22 rfl rfl)
theorem dX8_isAt_24 : decode cX8_isAt 24 = .ok (.iload_n 1, 1) := dk_27 (dk_at dksX8_isAt_1 0 rfl rfl)
theorem dX8_isAt_25 : decode cX8_isAt 25 = .ok (.iadd, 1) := dk_96 (dk_at dksX8_isAt_1 1 rfl rfl)
theorem dX8_isAt_26 : decode cX8_isAt 26 = .ok (.iaload, 1) := dk_46 (dk_at dksX8_isAt_1 2 rfl rfl)
theorem dX8_isAt_27 : decode cX8_isAt 27 = .ok (.invokevirtual 334, 3) := dk_182 1 78 (dk_at dksX8_isAt_1 3 rfl rfl)
theorem dX8_isAt_30 : decode cX8_isAt 30 = .ok (.aload_n 0, 1) := dk_42 (dk_at dksX8_isAt_1 6 rfl rfl)
theorem dX8_isAt_31 : decode cX8_isAt 31 = .ok (.getfield 74, 3) := dk_180 0 74 (dk_at dksX8_isAt_1 7 rfl rfl)
theorem dX8_isAt_34 : decode cX8_isAt 34 = .ok (.bipush 21, 2) := dk_16 21 (dk_at dksX8_isAt_1 10 rfl rfl)
theorem dX8_isAt_36 : decode cX8_isAt 36 = .ok (.iload_n 1, 1) := dk_27 (dk_at dksX8_isAt_1 12 rfl rfl)
theorem dX8_isAt_37 : decode cX8_isAt 37 = .ok (.iadd, 1) := dk_96 (dk_at dksX8_isAt_1 13 rfl rfl)
theorem dX8_isAt_38 : decode cX8_isAt 38 = .ok (.iaload, 1) := dk_46 (dk_at dksX8_isAt_1 14 rfl rfl)
theorem dX8_isAt_39 : decode cX8_isAt 39 = .ok (.iadd, 1) := dk_96 (dk_at dksX8_isAt_1 15 rfl rfl)
theorem dX8_isAt_40 : decode cX8_isAt 40 = .ok (.ireturn, 1) := dk_172 (dk_at dksX8_isAt_1 16 rfl rfl)
abbrev cX8_growsOf : ByteArray := prog_24_method_48_code
def yX8_growsOf : MethodName := ⟨RX8, "growsOf", "(IIIIIIII)I"⟩
def dkwX8_growsOf_2 : List UInt8 := [180, 0, 62, 16, 6, 21, 7, 79, 42, 180, 0, 62, 16, 7, 21, 8, 79, 42, 182, 1, 84, 172]
abbrev dktX8_growsOf_2 : List UInt8 := dkwX8_growsOf_2 ++ []
def dkwX8_growsOf_1 : List UInt8 := [180, 0, 62, 6, 21, 4, 79, 42, 180, 0, 62, 7, 21, 5, 79, 42, 180, 0, 62, 8, 21, 6, 79, 42]
abbrev dktX8_growsOf_1 : List UInt8 := dkwX8_growsOf_1 ++ dktX8_growsOf_2
def dkwX8_growsOf_0 : List UInt8 := [42, 180, 0, 62, 3, 27, 79, 42, 180, 0, 62, 4, 28, 79, 42, 180, 0, 62, 5, 29, 79, 42]
abbrev dktX8_growsOf_0 : List UInt8 := dkwX8_growsOf_0 ++ dktX8_growsOf_1
theorem dksX8_growsOf_0 : cX8_growsOf.data.toList.drop 0 = dktX8_growsOf_0 := by decide +kernel
theorem dksX8_growsOf_1 : cX8_growsOf.data.toList.drop 22 = dktX8_growsOf_1 := dk_seg dksX8_growsOf_0 22 rfl rfl
theorem dksX8_growsOf_2 : cX8_growsOf.data.toList.drop 46 = dktX8_growsOf_2 := dk_seg dksX8_growsOf_1 24 rfl rfl
theorem dX8_growsOf_0 : decode cX8_growsOf 0 = .ok (.aload_n 0, 1) := dk_42 (dk_at dksX8_growsOf_0 0 rfl rfl)
theorem dX8_growsOf_1 : decode cX8_growsOf 1 = .ok (.getfield 62, 3) := dk_180 0 62 (dk_at dksX8_growsOf_0 1 rfl rfl)
theorem dX8_growsOf_4 : decode cX8_growsOf 4 = .ok (.iconst 0, 1) := dk_3 (dk_at dksX8_growsOf_0 4 rfl rfl)
theorem dX8_growsOf_5 : decode cX8_growsOf 5 = .ok (.iload_n 1, 1) := dk_27 (dk_at dksX8_growsOf_0 5 rfl rfl)
theorem dX8_growsOf_6 : decode cX8_growsOf 6 = .ok (.iastore, 1) := dk_79 (dk_at dksX8_growsOf_0 6 rfl rfl)
theorem dX8_growsOf_7 : decode cX8_growsOf 7 = .ok (.aload_n 0, 1) := dk_42 (dk_at dksX8_growsOf_0 7 rfl rfl)
theorem dX8_growsOf_8 : decode cX8_growsOf 8 = .ok (.getfield 62, 3) := dk_180 0 62 (dk_at dksX8_growsOf_0 8 rfl rfl)
theorem dX8_growsOf_11 : decode cX8_growsOf 11 = .ok (.iconst 1, 1) := dk_4 (dk_at dksX8_growsOf_0 11 rfl rfl)
theorem dX8_growsOf_12 : decode cX8_growsOf 12 = .ok (.iload_n 2, 1) := dk_28 (dk_at dksX8_growsOf_0 12 rfl rfl)
theorem dX8_growsOf_13 : decode cX8_growsOf 13 = .ok (.iastore, 1) := dk_79 (dk_at dksX8_growsOf_0 13 rfl rfl)
theorem dX8_growsOf_14 : decode cX8_growsOf 14 = .ok (.aload_n 0, 1) := dk_42 (dk_at dksX8_growsOf_0 14 rfl rfl)
theorem dX8_growsOf_15 : decode cX8_growsOf 15 = .ok (.getfield 62, 3) := dk_180 0 62 (dk_at dksX8_growsOf_0 15 rfl rfl)
theorem dX8_growsOf_18 : decode cX8_growsOf 18 = .ok (.iconst 2, 1) := dk_5 (dk_at dksX8_growsOf_0 18 rfl rfl)
theorem dX8_growsOf_19 : decode cX8_growsOf 19 = .ok (.iload_n 3, 1) := dk_29 (dk_at dksX8_growsOf_0 19 rfl rfl)
theorem dX8_growsOf_20 : decode cX8_growsOf 20 = .ok (.iastore, 1) := dk_79 (dk_at dksX8_growsOf_0 20 rfl rfl)
theorem dX8_growsOf_21 : decode cX8_growsOf 21 = .ok (.aload_n 0, 1) := dk_42 (dk_at dksX8_growsOf_0 21 rfl rfl)
theorem dX8_growsOf_22 : decode cX8_growsOf 22 = .ok (.getfield 62, 3) := dk_180 0 62 (dk_at dksX8_growsOf_1 0 rfl rfl)
theorem dX8_growsOf_25 : decode cX8_growsOf 25 = .ok (.iconst 3, 1) := dk_6 (dk_at dksX8_growsOf_1 3 rfl rfl)
theorem dX8_growsOf_26 : decode cX8_growsOf 26 = .ok (.iload 4, 2) := dk_21 4 (dk_at dksX8_growsOf_1 4 rfl rfl)
theorem dX8_growsOf_28 : decode cX8_growsOf 28 = .ok (.iastore, 1) := dk_79 (dk_at dksX8_growsOf_1 6 rfl rfl)
theorem dX8_growsOf_29 : decode cX8_growsOf 29 = .ok (.aload_n 0, 1) := dk_42 (dk_at dksX8_growsOf_1 7 rfl rfl)
theorem dX8_growsOf_30 : decode cX8_growsOf 30 = .ok (.getfield 62, 3) := dk_180 0 62 (dk_at dksX8_growsOf_1 8 rfl rfl)
theorem dX8_growsOf_33 : decode cX8_growsOf 33 = .ok (.iconst 4, 1) := dk_7 (dk_at dksX8_growsOf_1 11 rfl rfl)
theorem dX8_growsOf_34 : decode cX8_growsOf 34 = .ok (.iload 5, 2) := dk_21 5 (dk_at dksX8_growsOf_1 12 rfl rfl)
theorem dX8_growsOf_36 : decode cX8_growsOf 36 = .ok (.iastore, 1) := dk_79 (dk_at dksX8_growsOf_1 14 rfl rfl)
theorem dX8_growsOf_37 : decode cX8_growsOf 37 = .ok (.aload_n 0, 1) := dk_42 (dk_at dksX8_growsOf_1 15 rfl rfl)
theorem dX8_growsOf_38 : decode cX8_growsOf 38 = .ok (.getfield 62, 3) := dk_180 0 62 (dk_at dksX8_growsOf_1 16 rfl rfl)
theorem dX8_growsOf_41 : decode cX8_growsOf 41 = .ok (.iconst 5, 1) := dk_8 (dk_at dksX8_growsOf_1 19 rfl rfl)
theorem dX8_growsOf_42 : decode cX8_growsOf 42 = .ok (.iload 6, 2) := dk_21 6 (dk_at dksX8_growsOf_1 20 rfl rfl)
theorem dX8_growsOf_44 : decode cX8_growsOf 44 = .ok (.iastore, 1) := dk_79 (dk_at dksX8_growsOf_1 22 rfl rfl)
theorem dX8_growsOf_45 : decode cX8_growsOf 45 = .ok (.aload_n 0, 1) := dk_42 (dk_at dksX8_growsOf_1 23 rfl rfl)
theorem dX8_growsOf_46 : decode cX8_growsOf 46 = .ok (.getfield 62, 3) := dk_180 0 62 (dk_at dksX8_growsOf_2 0 rfl rfl)
theorem dX8_growsOf_49 : decode cX8_growsOf 49 = .ok (.bipush 6, 2) := dk_16 6 (dk_at dksX8_growsOf_2 3 rfl rfl)
theorem dX8_growsOf_51 : decode cX8_growsOf 51 = .ok (.iload 7, 2) := dk_21 7 (dk_at dksX8_growsOf_2 5 rfl rfl)
theorem dX8_growsOf_53 : decode cX8_growsOf 53 = .ok (.iastore, 1) := dk_79 (dk_at dksX8_growsOf_2 7 rfl rfl)
theorem dX8_growsOf_54 : decode cX8_growsOf 54 = .ok (.aload_n 0, 1) := dk_42 (dk_at dksX8_growsOf_2 8 rfl rfl)
theorem dX8_growsOf_55 : decode cX8_growsOf 55 = .ok (.getfield 62, 3) := dk_180 0 62 (dk_at dksX8_growsOf_2 9 rfl rfl)
theorem dX8_growsOf_58 : decode cX8_growsOf 58 = .ok (.bipush 7, 2) := dk_16 7 (dk_at dksX8_growsOf_2 12 rfl rfl)
theorem dX8_growsOf_60 : decode cX8_growsOf 60 = .ok (.iload 8, 2) := dk_21 8 (dk_at dksX8_growsOf_2 14 rfl rfl)
theorem dX8_growsOf_62 : decode cX8_growsOf 62 = .ok (.iastore, 1) := dk_79 (dk_at dksX8_growsOf_2 16 rfl rfl)
theorem dX8_growsOf_63 : decode cX8_growsOf 63 = .ok (.aload_n 0, 1) := dk_42 (dk_at dksX8_growsOf_2 17 rfl rfl)
theorem dX8_growsOf_64 : decode cX8_growsOf 64 = .ok (.invokevirtual 340, 3) := dk_182 1 84 (dk_at dksX8_growsOf_2 18 rfl rfl)
theorem dX8_growsOf_67 : decode cX8_growsOf 67 = .ok (.ireturn, 1) := dk_172 (dk_at dksX8_growsOf_2 21 rfl rfl)
abbrev cX8_growsNow : ByteArray := prog_24_method_37_code
def yX8_growsNow : MethodName := ⟨RX8, "growsNow", "()I"⟩
def dkwX8_growsNow_1 : List UInt8 := [60, 27, 156, 0, 7, 3, 167, 0, 15, 27, 16, 9, 164, 0, 8, 16, 9, 167, 0, 4, 27, 172]
abbrev dktX8_growsNow_1 : List UInt8 := dkwX8_growsNow_1 ++ []
def dkwX8_growsNow_0 : List UInt8 := [42, 180, 0, 186, 154, 0, 16, 4, 42, 180, 0, 62, 3, 46, 6, 108, 96, 167, 0, 7, 42, 182, 1, 32]
abbrev dktX8_growsNow_0 : List UInt8 := dkwX8_growsNow_0 ++ dktX8_growsNow_1
theorem dksX8_growsNow_0 : cX8_growsNow.data.toList.drop 0 = dktX8_growsNow_0 := by decide +kernel
theorem dksX8_growsNow_1 : cX8_growsNow.data.toList.drop 24 = dktX8_growsNow_1 := dk_seg dksX8_growsNow_0 24 rfl rfl
theorem dX8_growsNow_0 : decode cX8_growsNow 0 = .ok (.aload_n 0, 1) := dk_42 (dk_at dksX8_growsNow_0 0 rfl rfl)
theorem dX8_growsNow_1 : decode cX8_growsNow 1 = .ok (.getfield 186, 3) := dk_180 0 186 (dk_at dksX8_growsNow_0 1 rfl rfl)
theorem dX8_growsNow_4 : decode cX8_growsNow 4 = .ok (.ifCond .ne 16, 3) := dk_154 0 16 (dk_at dksX8_growsNow_0 4 rfl rfl)
theorem dX8_growsNow_7 : decode cX8_growsNow 7 = .ok (.iconst 1, 1) := dk_4 (dk_at dksX8_growsNow_0 7 rfl rfl)
theorem dX8_growsNow_8 : decode cX8_growsNow 8 = .ok (.aload_n 0, 1) := dk_42 (dk_at dksX8_growsNow_0 8 rfl rfl)
theorem dX8_growsNow_9 : decode cX8_growsNow 9 = .ok (.getfield 62, 3) := dk_180 0 62 (dk_at dksX8_growsNow_0 9 rfl rfl)
theorem dX8_growsNow_12 : decode cX8_growsNow 12 = .ok (.iconst 0, 1) := dk_3 (dk_at dksX8_growsNow_0 12 rfl rfl)
theorem dX8_growsNow_13 : decode cX8_growsNow 13 = .ok (.iaload, 1) := dk_46 (dk_at dksX8_growsNow_0 13 rfl rfl)
theorem dX8_growsNow_14 : decode cX8_growsNow 14 = .ok (.iconst 3, 1) := dk_6 (dk_at dksX8_growsNow_0 14 rfl rfl)
theorem dX8_growsNow_15 : decode cX8_growsNow 15 = .ok (.idiv, 1) := dk_108 (dk_at dksX8_growsNow_0 15 rfl rfl)
theorem dX8_growsNow_16 : decode cX8_growsNow 16 = .ok (.iadd, 1) := dk_96 (dk_at dksX8_growsNow_0 16 rfl rfl)
theorem dX8_growsNow_17 : decode cX8_growsNow 17 = .ok (.goto 7, 3) := dk_167 0 7 (dk_at dksX8_growsNow_0 17 rfl rfl)
theorem dX8_growsNow_20 : decode cX8_growsNow 20 = .ok (.aload_n 0, 1) := dk_42 (dk_at dksX8_growsNow_0 20 rfl rfl)
theorem dX8_growsNow_21 : decode cX8_growsNow 21 = .ok (.invokevirtual 288, 3) := dk_182 1 32 (dk_at dksX8_growsNow_0 21 rfl rfl)
theorem dX8_growsNow_24 : decode cX8_growsNow 24 = .ok (.istore_n 1, 1) := dk_60 (dk_at dksX8_growsNow_1 0 rfl rfl)
theorem dX8_growsNow_25 : decode cX8_growsNow 25 = .ok (.iload_n 1, 1) := dk_27 (dk_at dksX8_growsNow_1 1 rfl rfl)
theorem dX8_growsNow_26 : decode cX8_growsNow 26 = .ok (.ifCond .ge 7, 3) := dk_156 0 7 (dk_at dksX8_growsNow_1 2 rfl rfl)
theorem dX8_growsNow_29 : decode cX8_growsNow 29 = .ok (.iconst 0, 1) := dk_3 (dk_at dksX8_growsNow_1 5 rfl rfl)
theorem dX8_growsNow_30 : decode cX8_growsNow 30 = .ok (.goto 15, 3) := dk_167 0 15 (dk_at dksX8_growsNow_1 6 rfl rfl)
theorem dX8_growsNow_33 : decode cX8_growsNow 33 = .ok (.iload_n 1, 1) := dk_27 (dk_at dksX8_growsNow_1 9 rfl rfl)
theorem dX8_growsNow_34 : decode cX8_growsNow 34 = .ok (.bipush 9, 2) := dk_16 9 (dk_at dksX8_growsNow_1 10 rfl rfl)
theorem dX8_growsNow_36 : decode cX8_growsNow 36 = .ok (.if_icmp .le 8, 3) := dk_164 0 8 (dk_at dksX8_growsNow_1 12 rfl rfl)
theorem dX8_growsNow_39 : decode cX8_growsNow 39 = .ok (.bipush 9, 2) := dk_16 9 (dk_at dksX8_growsNow_1 15 rfl rfl)
theorem dX8_growsNow_41 : decode cX8_growsNow 41 = .ok (.goto 4, 3) := dk_167 0 4 (dk_at dksX8_growsNow_1 17 rfl rfl)
theorem dX8_growsNow_44 : decode cX8_growsNow 44 = .ok (.iload_n 1, 1) := dk_27 (dk_at dksX8_growsNow_1 20 rfl rfl)
theorem dX8_growsNow_45 : decode cX8_growsNow 45 = .ok (.ireturn, 1) := dk_172 (dk_at dksX8_growsNow_1 21 rfl rfl)
abbrev cX8_valueNow : ByteArray := prog_24_method_35_code
def yX8_valueNow : MethodName := ⟨RX8, "valueNow", "()I"⟩
def dkwX8_valueNow_4 : List UInt8 := [42, 180, 0, 59, 3, 46, 172]
abbrev dktX8_valueNow_4 : List UInt8 := dkwX8_valueNow_4 ++ []
def dkwX8_valueNow_3 : List UInt8 := [42, 180, 0, 59, 27, 4, 100, 46, 42, 180, 0, 59, 27, 46, 184, 1, 28, 79, 132, 2, 1, 167, 255, 168]
abbrev dktX8_valueNow_3 : List UInt8 := dkwX8_valueNow_3 ++ dktX8_valueNow_4
def dkwX8_valueNow_2 : List UInt8 := [180, 0, 56, 28, 46, 46, 79, 132, 1, 1, 167, 0, 32, 132, 1, 255, 42, 180, 0, 59, 27, 4, 100, 29]
abbrev dktX8_valueNow_2 : List UInt8 := dkwX8_valueNow_2 ++ dktX8_valueNow_3
def dkwX8_valueNow_1 : List UInt8 := [42, 180, 0, 59, 27, 29, 154, 0, 12, 42, 180, 0, 56, 28, 46, 167, 0, 14, 42, 180, 0, 62, 42]
abbrev dktX8_valueNow_1 : List UInt8 := dkwX8_valueNow_1 ++ dktX8_valueNow_2
def dkwX8_valueNow_0 : List UInt8 := [3, 60, 3, 61, 28, 42, 180, 0, 186, 162, 0, 86, 42, 180, 0, 53, 28, 46, 62, 29, 4, 163, 0, 39]
abbrev dktX8_valueNow_0 : List UInt8 := dkwX8_valueNow_0 ++ dktX8_valueNow_1
theorem dksX8_valueNow_0 : cX8_valueNow.data.toList.drop 0 = dktX8_valueNow_0 := by decide +kernel
theorem dksX8_valueNow_1 : cX8_valueNow.data.toList.drop 24 = dktX8_valueNow_1 := dk_seg dksX8_valueNow_0 24 rfl rfl
theorem dksX8_valueNow_2 : cX8_valueNow.data.toList.drop 47 = dktX8_valueNow_2 := dk_seg dksX8_valueNow_1 23 rfl rfl
theorem dksX8_valueNow_3 : cX8_valueNow.data.toList.drop 71 = dktX8_valueNow_3 := dk_seg dksX8_valueNow_2 24 rfl rfl
theorem dksX8_valueNow_4 : cX8_valueNow.data.toList.drop 95 = dktX8_valueNow_4 := dk_seg dksX8_valueNow_3 24 rfl rfl
theorem dX8_valueNow_0 : decode cX8_valueNow 0 = .ok (.iconst 0, 1) := dk_3 (dk_at dksX8_valueNow_0 0 rfl rfl)
theorem dX8_valueNow_1 : decode cX8_valueNow 1 = .ok (.istore_n 1, 1) := dk_60 (dk_at dksX8_valueNow_0 1 rfl rfl)
theorem dX8_valueNow_2 : decode cX8_valueNow 2 = .ok (.iconst 0, 1) := dk_3 (dk_at dksX8_valueNow_0 2 rfl rfl)
theorem dX8_valueNow_3 : decode cX8_valueNow 3 = .ok (.istore_n 2, 1) := dk_61 (dk_at dksX8_valueNow_0 3 rfl rfl)
theorem dX8_valueNow_4 : decode cX8_valueNow 4 = .ok (.iload_n 2, 1) := dk_28 (dk_at dksX8_valueNow_0 4 rfl rfl)
theorem dX8_valueNow_5 : decode cX8_valueNow 5 = .ok (.aload_n 0, 1) := dk_42 (dk_at dksX8_valueNow_0 5 rfl rfl)
theorem dX8_valueNow_6 : decode cX8_valueNow 6 = .ok (.getfield 186, 3) := dk_180 0 186 (dk_at dksX8_valueNow_0 6 rfl rfl)
theorem dX8_valueNow_9 : decode cX8_valueNow 9 = .ok (.if_icmp .ge 86, 3) := dk_162 0 86 (dk_at dksX8_valueNow_0 9 rfl rfl)
theorem dX8_valueNow_12 : decode cX8_valueNow 12 = .ok (.aload_n 0, 1) := dk_42 (dk_at dksX8_valueNow_0 12 rfl rfl)
theorem dX8_valueNow_13 : decode cX8_valueNow 13 = .ok (.getfield 53, 3) := dk_180 0 53 (dk_at dksX8_valueNow_0 13 rfl rfl)
theorem dX8_valueNow_16 : decode cX8_valueNow 16 = .ok (.iload_n 2, 1) := dk_28 (dk_at dksX8_valueNow_0 16 rfl rfl)
theorem dX8_valueNow_17 : decode cX8_valueNow 17 = .ok (.iaload, 1) := dk_46 (dk_at dksX8_valueNow_0 17 rfl rfl)
theorem dX8_valueNow_18 : decode cX8_valueNow 18 = .ok (.istore_n 3, 1) := dk_62 (dk_at dksX8_valueNow_0 18 rfl rfl)
theorem dX8_valueNow_19 : decode cX8_valueNow 19 = .ok (.iload_n 3, 1) := dk_29 (dk_at dksX8_valueNow_0 19 rfl rfl)
theorem dX8_valueNow_20 : decode cX8_valueNow 20 = .ok (.iconst 1, 1) := dk_4 (dk_at dksX8_valueNow_0 20 rfl rfl)
theorem dX8_valueNow_21 : decode cX8_valueNow 21 = .ok (.if_icmp .gt 39, 3) := dk_163 0 39 (dk_at dksX8_valueNow_0 21 rfl rfl)
theorem dX8_valueNow_24 : decode cX8_valueNow 24 = .ok (.aload_n 0, 1) := dk_42 (dk_at dksX8_valueNow_1 0 rfl rfl)
theorem dX8_valueNow_25 : decode cX8_valueNow 25 = .ok (.getfield 59, 3) := dk_180 0 59 (dk_at dksX8_valueNow_1 1 rfl rfl)
theorem dX8_valueNow_28 : decode cX8_valueNow 28 = .ok (.iload_n 1, 1) := dk_27 (dk_at dksX8_valueNow_1 4 rfl rfl)
theorem dX8_valueNow_29 : decode cX8_valueNow 29 = .ok (.iload_n 3, 1) := dk_29 (dk_at dksX8_valueNow_1 5 rfl rfl)
theorem dX8_valueNow_30 : decode cX8_valueNow 30 = .ok (.ifCond .ne 12, 3) := dk_154 0 12 (dk_at dksX8_valueNow_1 6 rfl rfl)
theorem dX8_valueNow_33 : decode cX8_valueNow 33 = .ok (.aload_n 0, 1) := dk_42 (dk_at dksX8_valueNow_1 9 rfl rfl)
theorem dX8_valueNow_34 : decode cX8_valueNow 34 = .ok (.getfield 56, 3) := dk_180 0 56 (dk_at dksX8_valueNow_1 10 rfl rfl)
theorem dX8_valueNow_37 : decode cX8_valueNow 37 = .ok (.iload_n 2, 1) := dk_28 (dk_at dksX8_valueNow_1 13 rfl rfl)
theorem dX8_valueNow_38 : decode cX8_valueNow 38 = .ok (.iaload, 1) := dk_46 (dk_at dksX8_valueNow_1 14 rfl rfl)
theorem dX8_valueNow_39 : decode cX8_valueNow 39 = .ok (.goto 14, 3) := dk_167 0 14 (dk_at dksX8_valueNow_1 15 rfl rfl)
theorem dX8_valueNow_42 : decode cX8_valueNow 42 = .ok (.aload_n 0, 1) := dk_42 (dk_at dksX8_valueNow_1 18 rfl rfl)
theorem dX8_valueNow_43 : decode cX8_valueNow 43 = .ok (.getfield 62, 3) := dk_180 0 62 (dk_at dksX8_valueNow_1 19 rfl rfl)
theorem dX8_valueNow_46 : decode cX8_valueNow 46 = .ok (.aload_n 0, 1) := dk_42 (dk_at dksX8_valueNow_1 22 rfl rfl)
theorem dX8_valueNow_47 : decode cX8_valueNow 47 = .ok (.getfield 56, 3) := dk_180 0 56 (dk_at dksX8_valueNow_2 0 rfl rfl)
theorem dX8_valueNow_50 : decode cX8_valueNow 50 = .ok (.iload_n 2, 1) := dk_28 (dk_at dksX8_valueNow_2 3 rfl rfl)
theorem dX8_valueNow_51 : decode cX8_valueNow 51 = .ok (.iaload, 1) := dk_46 (dk_at dksX8_valueNow_2 4 rfl rfl)
theorem dX8_valueNow_52 : decode cX8_valueNow 52 = .ok (.iaload, 1) := dk_46 (dk_at dksX8_valueNow_2 5 rfl rfl)
theorem dX8_valueNow_53 : decode cX8_valueNow 53 = .ok (.iastore, 1) := dk_79 (dk_at dksX8_valueNow_2 6 rfl rfl)
theorem dX8_valueNow_54 : decode cX8_valueNow 54 = .ok (.iinc 1 1, 3) := dk_132 1 1 (dk_at dksX8_valueNow_2 7 rfl rfl)
theorem dX8_valueNow_57 : decode cX8_valueNow 57 = .ok (.goto 32, 3) := dk_167 0 32 (dk_at dksX8_valueNow_2 10 rfl rfl)
theorem dX8_valueNow_60 : decode cX8_valueNow 60 = .ok (.iinc 1 (-1), 3) := dk_132 1 255 (dk_at dksX8_valueNow_2 13 rfl rfl)
theorem dX8_valueNow_63 : decode cX8_valueNow 63 = .ok (.aload_n 0, 1) := dk_42 (dk_at dksX8_valueNow_2 16 rfl rfl)
theorem dX8_valueNow_64 : decode cX8_valueNow 64 = .ok (.getfield 59, 3) := dk_180 0 59 (dk_at dksX8_valueNow_2 17 rfl rfl)
theorem dX8_valueNow_67 : decode cX8_valueNow 67 = .ok (.iload_n 1, 1) := dk_27 (dk_at dksX8_valueNow_2 20 rfl rfl)
theorem dX8_valueNow_68 : decode cX8_valueNow 68 = .ok (.iconst 1, 1) := dk_4 (dk_at dksX8_valueNow_2 21 rfl rfl)
theorem dX8_valueNow_69 : decode cX8_valueNow 69 = .ok (.isub, 1) := dk_100 (dk_at dksX8_valueNow_2 22 rfl rfl)
theorem dX8_valueNow_70 : decode cX8_valueNow 70 = .ok (.iload_n 3, 1) := dk_29 (dk_at dksX8_valueNow_2 23 rfl rfl)
theorem dX8_valueNow_71 : decode cX8_valueNow 71 = .ok (.aload_n 0, 1) := dk_42 (dk_at dksX8_valueNow_3 0 rfl rfl)
theorem dX8_valueNow_72 : decode cX8_valueNow 72 = .ok (.getfield 59, 3) := dk_180 0 59 (dk_at dksX8_valueNow_3 1 rfl rfl)
theorem dX8_valueNow_75 : decode cX8_valueNow 75 = .ok (.iload_n 1, 1) := dk_27 (dk_at dksX8_valueNow_3 4 rfl rfl)
theorem dX8_valueNow_76 : decode cX8_valueNow 76 = .ok (.iconst 1, 1) := dk_4 (dk_at dksX8_valueNow_3 5 rfl rfl)
theorem dX8_valueNow_77 : decode cX8_valueNow 77 = .ok (.isub, 1) := dk_100 (dk_at dksX8_valueNow_3 6 rfl rfl)
theorem dX8_valueNow_78 : decode cX8_valueNow 78 = .ok (.iaload, 1) := dk_46 (dk_at dksX8_valueNow_3 7 rfl rfl)
theorem dX8_valueNow_79 : decode cX8_valueNow 79 = .ok (.aload_n 0, 1) := dk_42 (dk_at dksX8_valueNow_3 8 rfl rfl)
theorem dX8_valueNow_80 : decode cX8_valueNow 80 = .ok (.getfield 59, 3) := dk_180 0 59 (dk_at dksX8_valueNow_3 9 rfl rfl)
theorem dX8_valueNow_83 : decode cX8_valueNow 83 = .ok (.iload_n 1, 1) := dk_27 (dk_at dksX8_valueNow_3 12 rfl rfl)
theorem dX8_valueNow_84 : decode cX8_valueNow 84 = .ok (.iaload, 1) := dk_46 (dk_at dksX8_valueNow_3 13 rfl rfl)
theorem dX8_valueNow_85 : decode cX8_valueNow 85 = .ok (.invokestatic 284, 3) := dk_184 1 28 (dk_at dksX8_valueNow_3 14 rfl rfl)
theorem dX8_valueNow_88 : decode cX8_valueNow 88 = .ok (.iastore, 1) := dk_79 (dk_at dksX8_valueNow_3 17 rfl rfl)
theorem dX8_valueNow_89 : decode cX8_valueNow 89 = .ok (.iinc 2 1, 3) := dk_132 2 1 (dk_at dksX8_valueNow_3 18 rfl rfl)
theorem dX8_valueNow_92 : decode cX8_valueNow 92 = .ok (.goto (-88), 3) := dk_167 255 168 (dk_at dksX8_valueNow_3 21 rfl rfl)
theorem dX8_valueNow_95 : decode cX8_valueNow 95 = .ok (.aload_n 0, 1) := dk_42 (dk_at dksX8_valueNow_4 0 rfl rfl)
theorem dX8_valueNow_96 : decode cX8_valueNow 96 = .ok (.getfield 59, 3) := dk_180 0 59 (dk_at dksX8_valueNow_4 1 rfl rfl)
theorem dX8_valueNow_99 : decode cX8_valueNow 99 = .ok (.iconst 0, 1) := dk_3 (dk_at dksX8_valueNow_4 4 rfl rfl)
theorem dX8_valueNow_100 : decode cX8_valueNow 100 = .ok (.iaload, 1) := dk_46 (dk_at dksX8_valueNow_4 5 rfl rfl)
theorem dX8_valueNow_101 : decode cX8_valueNow 101 = .ok (.ireturn, 1) := dk_172 (dk_at dksX8_valueNow_4 6 rfl rfl)
abbrev cX8_both : ByteArray := prog_24_method_36_code
def yX8_both : MethodName := ⟨RX8, "both", "(III)I"⟩
def dkwX8_both_3 : List UInt8 := [16, 6, 160, 0, 7, 4, 167, 0, 4, 3, 160, 0, 7, 27, 167, 0, 4, 28, 172]
abbrev dktX8_both_3 : List UInt8 := dkwX8_both_3 ++ []
def dkwX8_both_2 : List UInt8 := [160, 0, 9, 27, 28, 108, 167, 0, 6, 27, 28, 112, 172, 27, 28, 162, 0, 7, 4, 167, 0, 4, 3, 26]
abbrev dktX8_both_2 : List UInt8 := dkwX8_both_2 ++ dktX8_both_3
def dkwX8_both_1 : List UInt8 := [28, 104, 172, 26, 8, 159, 0, 9, 26, 16, 8, 160, 0, 26, 28, 154, 0, 7, 3, 167, 0, 17, 26, 8]
abbrev dktX8_both_1 : List UInt8 := dkwX8_both_1 ++ dktX8_both_2
def dkwX8_both_0 : List UInt8 := [26, 5, 160, 0, 7, 27, 28, 96, 172, 26, 6, 160, 0, 7, 27, 28, 100, 172, 26, 7, 160, 0, 7, 27]
abbrev dktX8_both_0 : List UInt8 := dkwX8_both_0 ++ dktX8_both_1
theorem dksX8_both_0 : cX8_both.data.toList.drop 0 = dktX8_both_0 := by decide +kernel
theorem dksX8_both_1 : cX8_both.data.toList.drop 24 = dktX8_both_1 := dk_seg dksX8_both_0 24 rfl rfl
theorem dksX8_both_2 : cX8_both.data.toList.drop 48 = dktX8_both_2 := dk_seg dksX8_both_1 24 rfl rfl
theorem dksX8_both_3 : cX8_both.data.toList.drop 72 = dktX8_both_3 := dk_seg dksX8_both_2 24 rfl rfl
theorem dX8_both_0 : decode cX8_both 0 = .ok (.iload_n 0, 1) := dk_26 (dk_at dksX8_both_0 0 rfl rfl)
theorem dX8_both_1 : decode cX8_both 1 = .ok (.iconst 2, 1) := dk_5 (dk_at dksX8_both_0 1 rfl rfl)
theorem dX8_both_2 : decode cX8_both 2 = .ok (.if_icmp .ne 7, 3) := dk_160 0 7 (dk_at dksX8_both_0 2 rfl rfl)
theorem dX8_both_5 : decode cX8_both 5 = .ok (.iload_n 1, 1) := dk_27 (dk_at dksX8_both_0 5 rfl rfl)
theorem dX8_both_6 : decode cX8_both 6 = .ok (.iload_n 2, 1) := dk_28 (dk_at dksX8_both_0 6 rfl rfl)
theorem dX8_both_7 : decode cX8_both 7 = .ok (.iadd, 1) := dk_96 (dk_at dksX8_both_0 7 rfl rfl)
theorem dX8_both_8 : decode cX8_both 8 = .ok (.ireturn, 1) := dk_172 (dk_at dksX8_both_0 8 rfl rfl)
theorem dX8_both_9 : decode cX8_both 9 = .ok (.iload_n 0, 1) := dk_26 (dk_at dksX8_both_0 9 rfl rfl)
theorem dX8_both_10 : decode cX8_both 10 = .ok (.iconst 3, 1) := dk_6 (dk_at dksX8_both_0 10 rfl rfl)
theorem dX8_both_11 : decode cX8_both 11 = .ok (.if_icmp .ne 7, 3) := dk_160 0 7 (dk_at dksX8_both_0 11 rfl rfl)
theorem dX8_both_14 : decode cX8_both 14 = .ok (.iload_n 1, 1) := dk_27 (dk_at dksX8_both_0 14 rfl rfl)
theorem dX8_both_15 : decode cX8_both 15 = .ok (.iload_n 2, 1) := dk_28 (dk_at dksX8_both_0 15 rfl rfl)
theorem dX8_both_16 : decode cX8_both 16 = .ok (.isub, 1) := dk_100 (dk_at dksX8_both_0 16 rfl rfl)
theorem dX8_both_17 : decode cX8_both 17 = .ok (.ireturn, 1) := dk_172 (dk_at dksX8_both_0 17 rfl rfl)
theorem dX8_both_18 : decode cX8_both 18 = .ok (.iload_n 0, 1) := dk_26 (dk_at dksX8_both_0 18 rfl rfl)
theorem dX8_both_19 : decode cX8_both 19 = .ok (.iconst 4, 1) := dk_7 (dk_at dksX8_both_0 19 rfl rfl)
theorem dX8_both_20 : decode cX8_both 20 = .ok (.if_icmp .ne 7, 3) := dk_160 0 7 (dk_at dksX8_both_0 20 rfl rfl)
theorem dX8_both_23 : decode cX8_both 23 = .ok (.iload_n 1, 1) := dk_27 (dk_at dksX8_both_0 23 rfl rfl)
theorem dX8_both_24 : decode cX8_both 24 = .ok (.iload_n 2, 1) := dk_28 (dk_at dksX8_both_1 0 rfl rfl)
theorem dX8_both_25 : decode cX8_both 25 = .ok (.imul, 1) := dk_104 (dk_at dksX8_both_1 1 rfl rfl)
theorem dX8_both_26 : decode cX8_both 26 = .ok (.ireturn, 1) := dk_172 (dk_at dksX8_both_1 2 rfl rfl)
theorem dX8_both_27 : decode cX8_both 27 = .ok (.iload_n 0, 1) := dk_26 (dk_at dksX8_both_1 3 rfl rfl)
theorem dX8_both_28 : decode cX8_both 28 = .ok (.iconst 5, 1) := dk_8 (dk_at dksX8_both_1 4 rfl rfl)
theorem dX8_both_29 : decode cX8_both 29 = .ok (.if_icmp .eq 9, 3) := dk_159 0 9 (dk_at dksX8_both_1 5 rfl rfl)
theorem dX8_both_32 : decode cX8_both 32 = .ok (.iload_n 0, 1) := dk_26 (dk_at dksX8_both_1 8 rfl rfl)
theorem dX8_both_33 : decode cX8_both 33 = .ok (.bipush 8, 2) := dk_16 8 (dk_at dksX8_both_1 9 rfl rfl)
theorem dX8_both_35 : decode cX8_both 35 = .ok (.if_icmp .ne 26, 3) := dk_160 0 26 (dk_at dksX8_both_1 11 rfl rfl)
theorem dX8_both_38 : decode cX8_both 38 = .ok (.iload_n 2, 1) := dk_28 (dk_at dksX8_both_1 14 rfl rfl)
theorem dX8_both_39 : decode cX8_both 39 = .ok (.ifCond .ne 7, 3) := dk_154 0 7 (dk_at dksX8_both_1 15 rfl rfl)
theorem dX8_both_42 : decode cX8_both 42 = .ok (.iconst 0, 1) := dk_3 (dk_at dksX8_both_1 18 rfl rfl)
theorem dX8_both_43 : decode cX8_both 43 = .ok (.goto 17, 3) := dk_167 0 17 (dk_at dksX8_both_1 19 rfl rfl)
theorem dX8_both_46 : decode cX8_both 46 = .ok (.iload_n 0, 1) := dk_26 (dk_at dksX8_both_1 22 rfl rfl)
theorem dX8_both_47 : decode cX8_both 47 = .ok (.iconst 5, 1) := dk_8 (dk_at dksX8_both_1 23 rfl rfl)
theorem dX8_both_48 : decode cX8_both 48 = .ok (.if_icmp .ne 9, 3) := dk_160 0 9 (dk_at dksX8_both_2 0 rfl rfl)
theorem dX8_both_51 : decode cX8_both 51 = .ok (.iload_n 1, 1) := dk_27 (dk_at dksX8_both_2 3 rfl rfl)
theorem dX8_both_52 : decode cX8_both 52 = .ok (.iload_n 2, 1) := dk_28 (dk_at dksX8_both_2 4 rfl rfl)
theorem dX8_both_53 : decode cX8_both 53 = .ok (.idiv, 1) := dk_108 (dk_at dksX8_both_2 5 rfl rfl)
theorem dX8_both_54 : decode cX8_both 54 = .ok (.goto 6, 3) := dk_167 0 6 (dk_at dksX8_both_2 6 rfl rfl)
theorem dX8_both_57 : decode cX8_both 57 = .ok (.iload_n 1, 1) := dk_27 (dk_at dksX8_both_2 9 rfl rfl)
theorem dX8_both_58 : decode cX8_both 58 = .ok (.iload_n 2, 1) := dk_28 (dk_at dksX8_both_2 10 rfl rfl)
theorem dX8_both_59 : decode cX8_both 59 = .ok (.irem, 1) := dk_112 (dk_at dksX8_both_2 11 rfl rfl)
theorem dX8_both_60 : decode cX8_both 60 = .ok (.ireturn, 1) := dk_172 (dk_at dksX8_both_2 12 rfl rfl)
theorem dX8_both_61 : decode cX8_both 61 = .ok (.iload_n 1, 1) := dk_27 (dk_at dksX8_both_2 13 rfl rfl)
theorem dX8_both_62 : decode cX8_both 62 = .ok (.iload_n 2, 1) := dk_28 (dk_at dksX8_both_2 14 rfl rfl)
theorem dX8_both_63 : decode cX8_both 63 = .ok (.if_icmp .ge 7, 3) := dk_162 0 7 (dk_at dksX8_both_2 15 rfl rfl)
theorem dX8_both_66 : decode cX8_both 66 = .ok (.iconst 1, 1) := dk_4 (dk_at dksX8_both_2 18 rfl rfl)
theorem dX8_both_67 : decode cX8_both 67 = .ok (.goto 4, 3) := dk_167 0 4 (dk_at dksX8_both_2 19 rfl rfl)
theorem dX8_both_70 : decode cX8_both 70 = .ok (.iconst 0, 1) := dk_3 (dk_at dksX8_both_2 22 rfl rfl)
theorem dX8_both_71 : decode cX8_both 71 = .ok (.iload_n 0, 1) := dk_26 (dk_at dksX8_both_2 23 rfl rfl)
theorem dX8_both_72 : decode cX8_both 72 = .ok (.bipush 6, 2) := dk_16 6 (dk_at dksX8_both_3 0 rfl rfl)
theorem dX8_both_74 : decode cX8_both 74 = .ok (.if_icmp .ne 7, 3) := dk_160 0 7 (dk_at dksX8_both_3 2 rfl rfl)
theorem dX8_both_77 : decode cX8_both 77 = .ok (.iconst 1, 1) := dk_4 (dk_at dksX8_both_3 5 rfl rfl)
theorem dX8_both_78 : decode cX8_both 78 = .ok (.goto 4, 3) := dk_167 0 4 (dk_at dksX8_both_3 6 rfl rfl)
theorem dX8_both_81 : decode cX8_both 81 = .ok (.iconst 0, 1) := dk_3 (dk_at dksX8_both_3 9 rfl rfl)
theorem dX8_both_82 : decode cX8_both 82 = .ok (.if_icmp .ne 7, 3) := dk_160 0 7 (dk_at dksX8_both_3 10 rfl rfl)
theorem dX8_both_85 : decode cX8_both 85 = .ok (.iload_n 1, 1) := dk_27 (dk_at dksX8_both_3 13 rfl rfl)
theorem dX8_both_86 : decode cX8_both 86 = .ok (.goto 4, 3) := dk_167 0 4 (dk_at dksX8_both_3 14 rfl rfl)
theorem dX8_both_89 : decode cX8_both 89 = .ok (.iload_n 2, 1) := dk_28 (dk_at dksX8_both_3 17 rfl rfl)
theorem dX8_both_90 : decode cX8_both 90 = .ok (.ireturn, 1) := dk_172 (dk_at dksX8_both_3 18 rfl rfl)
abbrev cX8_held : ByteArray := prog_24_method_51_code
def yX8_held : MethodName := ⟨RX8, "held", "(I)I"⟩
def dkwX8_held_0 : List UInt8 := [26, 17, 3, 231, 164, 0, 9, 17, 3, 231, 167, 0, 4, 26, 172]
abbrev dktX8_held_0 : List UInt8 := dkwX8_held_0 ++ []
theorem dksX8_held_0 : cX8_held.data.toList.drop 0 = dktX8_held_0 := by decide +kernel
theorem dX8_held_0 : decode cX8_held 0 = .ok (.iload_n 0, 1) := dk_26 (dk_at dksX8_held_0 0 rfl rfl)
theorem dX8_held_1 : decode cX8_held 1 = .ok (.sipush 999, 3) := dk_17 3 231 (dk_at dksX8_held_0 1 rfl rfl)
theorem dX8_held_4 : decode cX8_held 4 = .ok (.if_icmp .le 9, 3) := dk_164 0 9 (dk_at dksX8_held_0 4 rfl rfl)
theorem dX8_held_7 : decode cX8_held 7 = .ok (.sipush 999, 3) := dk_17 3 231 (dk_at dksX8_held_0 7 rfl rfl)
theorem dX8_held_10 : decode cX8_held 10 = .ok (.goto 4, 3) := dk_167 0 4 (dk_at dksX8_held_0 10 rfl rfl)
theorem dX8_held_13 : decode cX8_held 13 = .ok (.iload_n 0, 1) := dk_26 (dk_at dksX8_held_0 13 rfl rfl)
theorem dX8_held_14 : decode cX8_held 14 = .ok (.ireturn, 1) := dk_172 (dk_at dksX8_held_0 14 rfl rfl)
abbrev cX8_swellsOf : ByteArray := prog_24_method_50_code
def yX8_swellsOf : MethodName := ⟨RX8, "swellsOf", "(I)I"⟩
def dkwX8_swellsOf_1 : List UInt8 := [100, 61, 28, 156, 0, 7, 3, 167, 0, 4, 28, 172]
abbrev dktX8_swellsOf_1 : List UInt8 := dkwX8_swellsOf_1 ++ []
def dkwX8_swellsOf_0 : List UInt8 := [42, 180, 0, 35, 5, 27, 104, 4, 96, 46, 42, 182, 1, 87, 96, 7, 108, 42, 180, 0, 74, 16, 48, 46]
abbrev dktX8_swellsOf_0 : List UInt8 := dkwX8_swellsOf_0 ++ dktX8_swellsOf_1
theorem dksX8_swellsOf_0 : cX8_swellsOf.data.toList.drop 0 = dktX8_swellsOf_0 := by decide +kernel
theorem dksX8_swellsOf_1 : cX8_swellsOf.data.toList.drop 24 = dktX8_swellsOf_1 := dk_seg dksX8_swellsOf_0 24 rfl rfl
theorem dX8_swellsOf_0 : decode cX8_swellsOf 0 = .ok (.aload_n 0, 1) := dk_42 (dk_at dksX8_swellsOf_0 0 rfl rfl)
theorem dX8_swellsOf_1 : decode cX8_swellsOf 1 = .ok (.getfield 35, 3) := dk_180 0 35 (dk_at dksX8_swellsOf_0 1 rfl rfl)
theorem dX8_swellsOf_4 : decode cX8_swellsOf 4 = .ok (.iconst 2, 1) := dk_5 (dk_at dksX8_swellsOf_0 4 rfl rfl)
theorem dX8_swellsOf_5 : decode cX8_swellsOf 5 = .ok (.iload_n 1, 1) := dk_27 (dk_at dksX8_swellsOf_0 5 rfl rfl)
theorem dX8_swellsOf_6 : decode cX8_swellsOf 6 = .ok (.imul, 1) := dk_104 (dk_at dksX8_swellsOf_0 6 rfl rfl)
theorem dX8_swellsOf_7 : decode cX8_swellsOf 7 = .ok (.iconst 1, 1) := dk_4 (dk_at dksX8_swellsOf_0 7 rfl rfl)
theorem dX8_swellsOf_8 : decode cX8_swellsOf 8 = .ok (.iadd, 1) := dk_96 (dk_at dksX8_swellsOf_0 8 rfl rfl)
theorem dX8_swellsOf_9 : decode cX8_swellsOf 9 = .ok (.iaload, 1) := dk_46 (dk_at dksX8_swellsOf_0 9 rfl rfl)
theorem dX8_swellsOf_10 : decode cX8_swellsOf 10 = .ok (.aload_n 0, 1) := dk_42 (dk_at dksX8_swellsOf_0 10 rfl rfl)
theorem dX8_swellsOf_11 : decode cX8_swellsOf 11 = .ok (.invokevirtual 343, 3) := dk_182 1 87 (dk_at dksX8_swellsOf_0 11 rfl rfl)
theorem dX8_swellsOf_14 : decode cX8_swellsOf 14 = .ok (.iadd, 1) := dk_96 (dk_at dksX8_swellsOf_0 14 rfl rfl)
theorem dX8_swellsOf_15 : decode cX8_swellsOf 15 = .ok (.iconst 4, 1) := dk_7 (dk_at dksX8_swellsOf_0 15 rfl rfl)
theorem dX8_swellsOf_16 : decode cX8_swellsOf 16 = .ok (.idiv, 1) := dk_108 (dk_at dksX8_swellsOf_0 16 rfl rfl)
theorem dX8_swellsOf_17 : decode cX8_swellsOf 17 = .ok (.aload_n 0, 1) := dk_42 (dk_at dksX8_swellsOf_0 17 rfl rfl)
theorem dX8_swellsOf_18 : decode cX8_swellsOf 18 = .ok (.getfield 74, 3) := dk_180 0 74 (dk_at dksX8_swellsOf_0 18 rfl rfl)
theorem dX8_swellsOf_21 : decode cX8_swellsOf 21 = .ok (.bipush 48, 2) := dk_16 48 (dk_at dksX8_swellsOf_0 21 rfl rfl)
theorem dX8_swellsOf_23 : decode cX8_swellsOf 23 = .ok (.iaload, 1) := dk_46 (dk_at dksX8_swellsOf_0 23 rfl rfl)
theorem dX8_swellsOf_24 : decode cX8_swellsOf 24 = .ok (.isub, 1) := dk_100 (dk_at dksX8_swellsOf_1 0 rfl rfl)
theorem dX8_swellsOf_25 : decode cX8_swellsOf 25 = .ok (.istore_n 2, 1) := dk_61 (dk_at dksX8_swellsOf_1 1 rfl rfl)
theorem dX8_swellsOf_26 : decode cX8_swellsOf 26 = .ok (.iload_n 2, 1) := dk_28 (dk_at dksX8_swellsOf_1 2 rfl rfl)
theorem dX8_swellsOf_27 : decode cX8_swellsOf 27 = .ok (.ifCond .ge 7, 3) := dk_156 0 7 (dk_at dksX8_swellsOf_1 3 rfl rfl)
theorem dX8_swellsOf_30 : decode cX8_swellsOf 30 = .ok (.iconst 0, 1) := dk_3 (dk_at dksX8_swellsOf_1 6 rfl rfl)
theorem dX8_swellsOf_31 : decode cX8_swellsOf 31 = .ok (.goto 4, 3) := dk_167 0 4 (dk_at dksX8_swellsOf_1 7 rfl rfl)
theorem dX8_swellsOf_34 : decode cX8_swellsOf 34 = .ok (.iload_n 2, 1) := dk_28 (dk_at dksX8_swellsOf_1 10 rfl rfl)
theorem dX8_swellsOf_35 : decode cX8_swellsOf 35 = .ok (.ireturn, 1) := dk_172 (dk_at dksX8_swellsOf_1 11 rfl rfl)
abbrev cX8_book : ByteArray := prog_24_method_58_code
def yX8_book : MethodName := ⟨RX8, "book", "(I)I"⟩
def dkwX8_book_9 : List UInt8 := [16, 13, 182, 0, 182, 29, 172]
abbrev dktX8_book_9 : List UInt8 := dkwX8_book_9 ++ []
def dkwX8_book_8 : List UInt8 := [42, 180, 0, 127, 2, 159, 0, 5, 29, 172, 42, 28, 181, 0, 189, 42, 42, 180, 0, 86, 42, 180, 0, 89]
abbrev dktX8_book_8 : List UInt8 := dkwX8_book_8 ++ dktX8_book_9
def dkwX8_book_7 : List UInt8 := [167, 0, 18, 42, 180, 0, 86, 21, 4, 21, 5, 79, 132, 2, 1, 167, 255, 142, 42, 28, 182, 0, 242, 62]
abbrev dktX8_book_7 : List UInt8 := dkwX8_book_7 ++ dktX8_book_8
def dkwX8_book_6 : List UInt8 := [42, 3, 17, 3, 231, 182, 0, 201, 54, 5, 42, 16, 59, 182, 0, 239, 42, 182, 0, 156, 154, 0, 6]
abbrev dktX8_book_6 : List UInt8 := dkwX8_book_6 ++ dktX8_book_7
def dkwX8_book_5 : List UInt8 := [5, 29, 182, 0, 163, 42, 182, 0, 156, 153, 0, 15, 28, 16, 6, 160, 0, 9, 42, 6, 29, 182, 0, 163]
abbrev dktX8_book_5 : List UInt8 := dkwX8_book_5 ++ dktX8_book_6
def dkwX8_book_4 : List UInt8 := [182, 0, 201, 54, 4, 42, 182, 0, 156, 153, 0, 20, 42, 180, 0, 86, 21, 4, 46, 2, 159, 0, 9, 42]
abbrev dktX8_book_4 : List UInt8 := dkwX8_book_4 ++ dktX8_book_5
def dkwX8_book_3 : List UInt8 := [153, 0, 113, 42, 182, 0, 224, 153, 0, 106, 42, 182, 0, 139, 87, 42, 180, 0, 133, 62, 42, 4, 16, 12]
abbrev dktX8_book_3 : List UInt8 := dkwX8_book_3 ++ dktX8_book_4
def dkwX8_book_2 : List UInt8 := [16, 12, 163, 0, 16, 42, 180, 0, 86, 28, 2, 79, 132, 2, 1, 167, 255, 240, 3, 61, 42, 182, 0, 156]
abbrev dktX8_book_2 : List UInt8 := dkwX8_book_2 ++ dktX8_book_3
def dkwX8_book_1 : List UInt8 := [4, 167, 0, 4, 3, 4, 4, 182, 0, 216, 154, 0, 5, 3, 172, 42, 27, 182, 0, 220, 3, 61, 28]
abbrev dktX8_book_1 : List UInt8 := dkwX8_book_1 ++ dktX8_book_2
def dkwX8_book_0 : List UInt8 := [42, 3, 181, 0, 3, 42, 27, 155, 0, 21, 27, 42, 180, 0, 124, 163, 0, 13, 27, 16, 60, 163, 0, 7]
abbrev dktX8_book_0 : List UInt8 := dkwX8_book_0 ++ dktX8_book_1
theorem dksX8_book_0 : cX8_book.data.toList.drop 0 = dktX8_book_0 := by decide +kernel
theorem dksX8_book_1 : cX8_book.data.toList.drop 24 = dktX8_book_1 := dk_seg dksX8_book_0 24 rfl rfl
theorem dksX8_book_2 : cX8_book.data.toList.drop 47 = dktX8_book_2 := dk_seg dksX8_book_1 23 rfl rfl
theorem dksX8_book_3 : cX8_book.data.toList.drop 71 = dktX8_book_3 := dk_seg dksX8_book_2 24 rfl rfl
theorem dksX8_book_4 : cX8_book.data.toList.drop 95 = dktX8_book_4 := dk_seg dksX8_book_3 24 rfl rfl
theorem dksX8_book_5 : cX8_book.data.toList.drop 119 = dktX8_book_5 := dk_seg dksX8_book_4 24 rfl rfl
theorem dksX8_book_6 : cX8_book.data.toList.drop 143 = dktX8_book_6 := dk_seg dksX8_book_5 24 rfl rfl
theorem dksX8_book_7 : cX8_book.data.toList.drop 166 = dktX8_book_7 := dk_seg dksX8_book_6 23 rfl rfl
theorem dksX8_book_8 : cX8_book.data.toList.drop 190 = dktX8_book_8 := dk_seg dksX8_book_7 24 rfl rfl
theorem dksX8_book_9 : cX8_book.data.toList.drop 214 = dktX8_book_9 := dk_seg dksX8_book_8 24 rfl rfl
theorem dX8_book_0 : decode cX8_book 0 = .ok (.aload_n 0, 1) := dk_42 (dk_at dksX8_book_0 0 rfl rfl)
theorem dX8_book_1 : decode cX8_book 1 = .ok (.iconst 0, 1) := dk_3 (dk_at dksX8_book_0 1 rfl rfl)
theorem dX8_book_2 : decode cX8_book 2 = .ok (.putfield 3, 3) := dk_181 0 3 (dk_at dksX8_book_0 2 rfl rfl)
theorem dX8_book_5 : decode cX8_book 5 = .ok (.aload_n 0, 1) := dk_42 (dk_at dksX8_book_0 5 rfl rfl)
theorem dX8_book_6 : decode cX8_book 6 = .ok (.iload_n 1, 1) := dk_27 (dk_at dksX8_book_0 6 rfl rfl)
theorem dX8_book_7 : decode cX8_book 7 = .ok (.ifCond .lt 21, 3) := dk_155 0 21 (dk_at dksX8_book_0 7 rfl rfl)
theorem dX8_book_10 : decode cX8_book 10 = .ok (.iload_n 1, 1) := dk_27 (dk_at dksX8_book_0 10 rfl rfl)
theorem dX8_book_11 : decode cX8_book 11 = .ok (.aload_n 0, 1) := dk_42 (dk_at dksX8_book_0 11 rfl rfl)
theorem dX8_book_12 : decode cX8_book 12 = .ok (.getfield 124, 3) := dk_180 0 124 (dk_at dksX8_book_0 12 rfl rfl)
theorem dX8_book_15 : decode cX8_book 15 = .ok (.if_icmp .gt 13, 3) := dk_163 0 13 (dk_at dksX8_book_0 15 rfl rfl)
theorem dX8_book_18 : decode cX8_book 18 = .ok (.iload_n 1, 1) := dk_27 (dk_at dksX8_book_0 18 rfl rfl)
theorem dX8_book_19 : decode cX8_book 19 = .ok (.bipush 60, 2) := dk_16 60 (dk_at dksX8_book_0 19 rfl rfl)
theorem dX8_book_21 : decode cX8_book 21 = .ok (.if_icmp .gt 7, 3) := dk_163 0 7 (dk_at dksX8_book_0 21 rfl rfl)
theorem dX8_book_24 : decode cX8_book 24 = .ok (.iconst 1, 1) := dk_4 (dk_at dksX8_book_1 0 rfl rfl)
theorem dX8_book_25 : decode cX8_book 25 = .ok (.goto 4, 3) := dk_167 0 4 (dk_at dksX8_book_1 1 rfl rfl)
theorem dX8_book_28 : decode cX8_book 28 = .ok (.iconst 0, 1) := dk_3 (dk_at dksX8_book_1 4 rfl rfl)
theorem dX8_book_29 : decode cX8_book 29 = .ok (.iconst 1, 1) := dk_4 (dk_at dksX8_book_1 5 rfl rfl)
theorem dX8_book_30 : decode cX8_book 30 = .ok (.iconst 1, 1) := dk_4 (dk_at dksX8_book_1 6 rfl rfl)
theorem dX8_book_31 : decode cX8_book 31 = .ok (.invokevirtual 216, 3) := dk_182 0 216 (dk_at dksX8_book_1 7 rfl rfl)
theorem dX8_book_34 : decode cX8_book 34 = .ok (.ifCond .ne 5, 3) := dk_154 0 5 (dk_at dksX8_book_1 10 rfl rfl)
theorem dX8_book_37 : decode cX8_book 37 = .ok (.iconst 0, 1) := dk_3 (dk_at dksX8_book_1 13 rfl rfl)
theorem dX8_book_38 : decode cX8_book 38 = .ok (.ireturn, 1) := dk_172 (dk_at dksX8_book_1 14 rfl rfl)
theorem dX8_book_39 : decode cX8_book 39 = .ok (.aload_n 0, 1) := dk_42 (dk_at dksX8_book_1 15 rfl rfl)
theorem dX8_book_40 : decode cX8_book 40 = .ok (.iload_n 1, 1) := dk_27 (dk_at dksX8_book_1 16 rfl rfl)
theorem dX8_book_41 : decode cX8_book 41 = .ok (.invokevirtual 220, 3) := dk_182 0 220 (dk_at dksX8_book_1 17 rfl rfl)
theorem dX8_book_44 : decode cX8_book 44 = .ok (.iconst 0, 1) := dk_3 (dk_at dksX8_book_1 20 rfl rfl)
theorem dX8_book_45 : decode cX8_book 45 = .ok (.istore_n 2, 1) := dk_61 (dk_at dksX8_book_1 21 rfl rfl)
theorem dX8_book_46 : decode cX8_book 46 = .ok (.iload_n 2, 1) := dk_28 (dk_at dksX8_book_1 22 rfl rfl)
theorem dX8_book_47 : decode cX8_book 47 = .ok (.bipush 12, 2) := dk_16 12 (dk_at dksX8_book_2 0 rfl rfl)
theorem dX8_book_49 : decode cX8_book 49 = .ok (.if_icmp .gt 16, 3) := dk_163 0 16 (dk_at dksX8_book_2 2 rfl rfl)
theorem dX8_book_52 : decode cX8_book 52 = .ok (.aload_n 0, 1) := dk_42 (dk_at dksX8_book_2 5 rfl rfl)
theorem dX8_book_53 : decode cX8_book 53 = .ok (.getfield 86, 3) := dk_180 0 86 (dk_at dksX8_book_2 6 rfl rfl)
theorem dX8_book_56 : decode cX8_book 56 = .ok (.iload_n 2, 1) := dk_28 (dk_at dksX8_book_2 9 rfl rfl)
theorem dX8_book_57 : decode cX8_book 57 = .ok (.iconst (-1), 1) := dk_2 (dk_at dksX8_book_2 10 rfl rfl)
theorem dX8_book_58 : decode cX8_book 58 = .ok (.iastore, 1) := dk_79 (dk_at dksX8_book_2 11 rfl rfl)
theorem dX8_book_59 : decode cX8_book 59 = .ok (.iinc 2 1, 3) := dk_132 2 1 (dk_at dksX8_book_2 12 rfl rfl)
theorem dX8_book_62 : decode cX8_book 62 = .ok (.goto (-16), 3) := dk_167 255 240 (dk_at dksX8_book_2 15 rfl rfl)
theorem dX8_book_65 : decode cX8_book 65 = .ok (.iconst 0, 1) := dk_3 (dk_at dksX8_book_2 18 rfl rfl)
theorem dX8_book_66 : decode cX8_book 66 = .ok (.istore_n 2, 1) := dk_61 (dk_at dksX8_book_2 19 rfl rfl)
theorem dX8_book_67 : decode cX8_book 67 = .ok (.aload_n 0, 1) := dk_42 (dk_at dksX8_book_2 20 rfl rfl)
theorem dX8_book_68 : decode cX8_book 68 = .ok (.invokevirtual 156, 3) := dk_182 0 156 (dk_at dksX8_book_2 21 rfl rfl)
theorem dX8_book_71 : decode cX8_book 71 = .ok (.ifCond .eq 113, 3) := dk_153 0 113 (dk_at dksX8_book_3 0 rfl rfl)
theorem dX8_book_74 : decode cX8_book 74 = .ok (.aload_n 0, 1) := dk_42 (dk_at dksX8_book_3 3 rfl rfl)
theorem dX8_book_75 : decode cX8_book 75 = .ok (.invokevirtual 224, 3) := dk_182 0 224 (dk_at dksX8_book_3 4 rfl rfl)
theorem dX8_book_78 : decode cX8_book 78 = .ok (.ifCond .eq 106, 3) := dk_153 0 106 (dk_at dksX8_book_3 7 rfl rfl)
theorem dX8_book_81 : decode cX8_book 81 = .ok (.aload_n 0, 1) := dk_42 (dk_at dksX8_book_3 10 rfl rfl)
theorem dX8_book_82 : decode cX8_book 82 = .ok (.invokevirtual 139, 3) := dk_182 0 139 (dk_at dksX8_book_3 11 rfl rfl)
theorem dX8_book_85 : decode cX8_book 85 = .ok (.pop, 1) := dk_87 (dk_at dksX8_book_3 14 rfl rfl)
theorem dX8_book_86 : decode cX8_book 86 = .ok (.aload_n 0, 1) := dk_42 (dk_at dksX8_book_3 15 rfl rfl)
theorem dX8_book_87 : decode cX8_book 87 = .ok (.getfield 133, 3) := dk_180 0 133 (dk_at dksX8_book_3 16 rfl rfl)
theorem dX8_book_90 : decode cX8_book 90 = .ok (.istore_n 3, 1) := dk_62 (dk_at dksX8_book_3 19 rfl rfl)
theorem dX8_book_91 : decode cX8_book 91 = .ok (.aload_n 0, 1) := dk_42 (dk_at dksX8_book_3 20 rfl rfl)
theorem dX8_book_92 : decode cX8_book 92 = .ok (.iconst 1, 1) := dk_4 (dk_at dksX8_book_3 21 rfl rfl)
theorem dX8_book_93 : decode cX8_book 93 = .ok (.bipush 12, 2) := dk_16 12 (dk_at dksX8_book_3 22 rfl rfl)
theorem dX8_book_95 : decode cX8_book 95 = .ok (.invokevirtual 201, 3) := dk_182 0 201 (dk_at dksX8_book_4 0 rfl rfl)
theorem dX8_book_98 : decode cX8_book 98 = .ok (.istore 4, 2) := dk_54 4 (dk_at dksX8_book_4 3 rfl rfl)
theorem dX8_book_100 : decode cX8_book 100 = .ok (.aload_n 0, 1) := dk_42 (dk_at dksX8_book_4 5 rfl rfl)
theorem dX8_book_101 : decode cX8_book 101 = .ok (.invokevirtual 156, 3) := dk_182 0 156 (dk_at dksX8_book_4 6 rfl rfl)
theorem dX8_book_104 : decode cX8_book 104 = .ok (.ifCond .eq 20, 3) := dk_153 0 20 (dk_at dksX8_book_4 9 rfl rfl)
theorem dX8_book_107 : decode cX8_book 107 = .ok (.aload_n 0, 1) := dk_42 (dk_at dksX8_book_4 12 rfl rfl)
theorem dX8_book_108 : decode cX8_book 108 = .ok (.getfield 86, 3) := dk_180 0 86 (dk_at dksX8_book_4 13 rfl rfl)
theorem dX8_book_111 : decode cX8_book 111 = .ok (.iload 4, 2) := dk_21 4 (dk_at dksX8_book_4 16 rfl rfl)
theorem dX8_book_113 : decode cX8_book 113 = .ok (.iaload, 1) := dk_46 (dk_at dksX8_book_4 18 rfl rfl)
theorem dX8_book_114 : decode cX8_book 114 = .ok (.iconst (-1), 1) := dk_2 (dk_at dksX8_book_4 19 rfl rfl)
theorem dX8_book_115 : decode cX8_book 115 = .ok (.if_icmp .eq 9, 3) := dk_159 0 9 (dk_at dksX8_book_4 20 rfl rfl)
theorem dX8_book_118 : decode cX8_book 118 = .ok (.aload_n 0, 1) := dk_42 (dk_at dksX8_book_4 23 rfl rfl)
theorem dX8_book_119 : decode cX8_book 119 = .ok (.iconst 2, 1) := dk_5 (dk_at dksX8_book_5 0 rfl rfl)
theorem dX8_book_120 : decode cX8_book 120 = .ok (.iload_n 3, 1) := dk_29 (dk_at dksX8_book_5 1 rfl rfl)
theorem dX8_book_121 : decode cX8_book 121 = .ok (.invokevirtual 163, 3) := dk_182 0 163 (dk_at dksX8_book_5 2 rfl rfl)
theorem dX8_book_124 : decode cX8_book 124 = .ok (.aload_n 0, 1) := dk_42 (dk_at dksX8_book_5 5 rfl rfl)
theorem dX8_book_125 : decode cX8_book 125 = .ok (.invokevirtual 156, 3) := dk_182 0 156 (dk_at dksX8_book_5 6 rfl rfl)
theorem dX8_book_128 : decode cX8_book 128 = .ok (.ifCond .eq 15, 3) := dk_153 0 15 (dk_at dksX8_book_5 9 rfl rfl)
theorem dX8_book_131 : decode cX8_book 131 = .ok (.iload_n 2, 1) := dk_28 (dk_at dksX8_book_5 12 rfl rfl)
theorem dX8_book_132 : decode cX8_book 132 = .ok (.bipush 6, 2) := dk_16 6 (dk_at dksX8_book_5 13 rfl rfl)
theorem dX8_book_134 : decode cX8_book 134 = .ok (.if_icmp .ne 9, 3) := dk_160 0 9 (dk_at dksX8_book_5 15 rfl rfl)
theorem dX8_book_137 : decode cX8_book 137 = .ok (.aload_n 0, 1) := dk_42 (dk_at dksX8_book_5 18 rfl rfl)
theorem dX8_book_138 : decode cX8_book 138 = .ok (.iconst 3, 1) := dk_6 (dk_at dksX8_book_5 19 rfl rfl)
theorem dX8_book_139 : decode cX8_book 139 = .ok (.iload_n 3, 1) := dk_29 (dk_at dksX8_book_5 20 rfl rfl)
theorem dX8_book_140 : decode cX8_book 140 = .ok (.invokevirtual 163, 3) := dk_182 0 163 (dk_at dksX8_book_5 21 rfl rfl)
theorem dX8_book_143 : decode cX8_book 143 = .ok (.aload_n 0, 1) := dk_42 (dk_at dksX8_book_6 0 rfl rfl)
theorem dX8_book_144 : decode cX8_book 144 = .ok (.iconst 0, 1) := dk_3 (dk_at dksX8_book_6 1 rfl rfl)
theorem dX8_book_145 : decode cX8_book 145 = .ok (.sipush 999, 3) := dk_17 3 231 (dk_at dksX8_book_6 2 rfl rfl)
theorem dX8_book_148 : decode cX8_book 148 = .ok (.invokevirtual 201, 3) := dk_182 0 201 (dk_at dksX8_book_6 5 rfl rfl)
theorem dX8_book_151 : decode cX8_book 151 = .ok (.istore 5, 2) := dk_54 5 (dk_at dksX8_book_6 8 rfl rfl)
theorem dX8_book_153 : decode cX8_book 153 = .ok (.aload_n 0, 1) := dk_42 (dk_at dksX8_book_6 10 rfl rfl)
theorem dX8_book_154 : decode cX8_book 154 = .ok (.bipush 59, 2) := dk_16 59 (dk_at dksX8_book_6 11 rfl rfl)
theorem dX8_book_156 : decode cX8_book 156 = .ok (.invokevirtual 239, 3) := dk_182 0 239 (dk_at dksX8_book_6 13 rfl rfl)
theorem dX8_book_159 : decode cX8_book 159 = .ok (.aload_n 0, 1) := dk_42 (dk_at dksX8_book_6 16 rfl rfl)
theorem dX8_book_160 : decode cX8_book 160 = .ok (.invokevirtual 156, 3) := dk_182 0 156 (dk_at dksX8_book_6 17 rfl rfl)
theorem dX8_book_163 : decode cX8_book 163 = .ok (.ifCond .ne 6, 3) := dk_154 0 6 (dk_at dksX8_book_6 20 rfl rfl)
theorem dX8_book_166 : decode cX8_book 166 = .ok (.goto 18, 3) := dk_167 0 18 (dk_at dksX8_book_7 0 rfl rfl)
theorem dX8_book_169 : decode cX8_book 169 = .ok (.aload_n 0, 1) := dk_42 (dk_at dksX8_book_7 3 rfl rfl)
theorem dX8_book_170 : decode cX8_book 170 = .ok (.getfield 86, 3) := dk_180 0 86 (dk_at dksX8_book_7 4 rfl rfl)
theorem dX8_book_173 : decode cX8_book 173 = .ok (.iload 4, 2) := dk_21 4 (dk_at dksX8_book_7 7 rfl rfl)
theorem dX8_book_175 : decode cX8_book 175 = .ok (.iload 5, 2) := dk_21 5 (dk_at dksX8_book_7 9 rfl rfl)
theorem dX8_book_177 : decode cX8_book 177 = .ok (.iastore, 1) := dk_79 (dk_at dksX8_book_7 11 rfl rfl)
theorem dX8_book_178 : decode cX8_book 178 = .ok (.iinc 2 1, 3) := dk_132 2 1 (dk_at dksX8_book_7 12 rfl rfl)
theorem dX8_book_181 : decode cX8_book 181 = .ok (.goto (-114), 3) := dk_167 255 142 (dk_at dksX8_book_7 15 rfl rfl)
theorem dX8_book_184 : decode cX8_book 184 = .ok (.aload_n 0, 1) := dk_42 (dk_at dksX8_book_7 18 rfl rfl)
theorem dX8_book_185 : decode cX8_book 185 = .ok (.iload_n 2, 1) := dk_28 (dk_at dksX8_book_7 19 rfl rfl)
theorem dX8_book_186 : decode cX8_book 186 = .ok (.invokevirtual 242, 3) := dk_182 0 242 (dk_at dksX8_book_7 20 rfl rfl)
theorem dX8_book_189 : decode cX8_book 189 = .ok (.istore_n 3, 1) := dk_62 (dk_at dksX8_book_7 23 rfl rfl)
theorem dX8_book_190 : decode cX8_book 190 = .ok (.aload_n 0, 1) := dk_42 (dk_at dksX8_book_8 0 rfl rfl)
theorem dX8_book_191 : decode cX8_book 191 = .ok (.getfield 127, 3) := dk_180 0 127 (dk_at dksX8_book_8 1 rfl rfl)
theorem dX8_book_194 : decode cX8_book 194 = .ok (.iconst (-1), 1) := dk_2 (dk_at dksX8_book_8 4 rfl rfl)
theorem dX8_book_195 : decode cX8_book 195 = .ok (.if_icmp .eq 5, 3) := dk_159 0 5 (dk_at dksX8_book_8 5 rfl rfl)
theorem dX8_book_198 : decode cX8_book 198 = .ok (.iload_n 3, 1) := dk_29 (dk_at dksX8_book_8 8 rfl rfl)
theorem dX8_book_199 : decode cX8_book 199 = .ok (.ireturn, 1) := dk_172 (dk_at dksX8_book_8 9 rfl rfl)
theorem dX8_book_200 : decode cX8_book 200 = .ok (.aload_n 0, 1) := dk_42 (dk_at dksX8_book_8 10 rfl rfl)
theorem dX8_book_201 : decode cX8_book 201 = .ok (.iload_n 2, 1) := dk_28 (dk_at dksX8_book_8 11 rfl rfl)
theorem dX8_book_202 : decode cX8_book 202 = .ok (.putfield 189, 3) := dk_181 0 189 (dk_at dksX8_book_8 12 rfl rfl)
theorem dX8_book_205 : decode cX8_book 205 = .ok (.aload_n 0, 1) := dk_42 (dk_at dksX8_book_8 15 rfl rfl)
theorem dX8_book_206 : decode cX8_book 206 = .ok (.aload_n 0, 1) := dk_42 (dk_at dksX8_book_8 16 rfl rfl)
theorem dX8_book_207 : decode cX8_book 207 = .ok (.getfield 86, 3) := dk_180 0 86 (dk_at dksX8_book_8 17 rfl rfl)
theorem dX8_book_210 : decode cX8_book 210 = .ok (.aload_n 0, 1) := dk_42 (dk_at dksX8_book_8 20 rfl rfl)
theorem dX8_book_211 : decode cX8_book 211 = .ok (.getfield 89, 3) := dk_180 0 89 (dk_at dksX8_book_8 21 rfl rfl)
theorem dX8_book_214 : decode cX8_book 214 = .ok (.bipush 13, 2) := dk_16 13 (dk_at dksX8_book_9 0 rfl rfl)
theorem dX8_book_216 : decode cX8_book 216 = .ok (.invokevirtual 182, 3) := dk_182 0 182 (dk_at dksX8_book_9 2 rfl rfl)
theorem dX8_book_219 : decode cX8_book 219 = .ok (.iload_n 3, 1) := dk_29 (dk_at dksX8_book_9 5 rfl rfl)
theorem dX8_book_220 : decode cX8_book 220 = .ok (.ireturn, 1) := dk_172 (dk_at dksX8_book_9 6 rfl rfl)
abbrev cX8_undo : ByteArray := prog_24_method_59_code
def yX8_undo : MethodName := ⟨RX8, "undo", "()I"⟩
def dkwX8_undo_2 : List UInt8 := [27, 96, 46, 79, 132, 1, 1, 167, 255, 227, 42, 3, 181, 0, 198, 42, 180, 0, 192, 172]
abbrev dktX8_undo_2 : List UInt8 := dkwX8_undo_2 ++ []
def dkwX8_undo_1 : List UInt8 := [3, 60, 27, 16, 50, 162, 0, 29, 42, 180, 0, 71, 27, 42, 180, 0, 77, 16, 50, 42, 180, 0, 192, 104]
abbrev dktX8_undo_1 : List UInt8 := dkwX8_undo_1 ++ dktX8_undo_2
def dkwX8_undo_0 : List UInt8 := [42, 3, 181, 0, 3, 42, 180, 0, 192, 154, 0, 5, 2, 172, 42, 89, 180, 0, 192, 4, 100, 181, 0, 192]
abbrev dktX8_undo_0 : List UInt8 := dkwX8_undo_0 ++ dktX8_undo_1
theorem dksX8_undo_0 : cX8_undo.data.toList.drop 0 = dktX8_undo_0 := by decide +kernel
theorem dksX8_undo_1 : cX8_undo.data.toList.drop 24 = dktX8_undo_1 := dk_seg dksX8_undo_0 24 rfl rfl
theorem dksX8_undo_2 : cX8_undo.data.toList.drop 48 = dktX8_undo_2 := dk_seg dksX8_undo_1 24 rfl rfl
theorem dX8_undo_0 : decode cX8_undo 0 = .ok (.aload_n 0, 1) := dk_42 (dk_at dksX8_undo_0 0 rfl rfl)
theorem dX8_undo_1 : decode cX8_undo 1 = .ok (.iconst 0, 1) := dk_3 (dk_at dksX8_undo_0 1 rfl rfl)
theorem dX8_undo_2 : decode cX8_undo 2 = .ok (.putfield 3, 3) := dk_181 0 3 (dk_at dksX8_undo_0 2 rfl rfl)
theorem dX8_undo_5 : decode cX8_undo 5 = .ok (.aload_n 0, 1) := dk_42 (dk_at dksX8_undo_0 5 rfl rfl)
theorem dX8_undo_6 : decode cX8_undo 6 = .ok (.getfield 192, 3) := dk_180 0 192 (dk_at dksX8_undo_0 6 rfl rfl)
theorem dX8_undo_9 : decode cX8_undo 9 = .ok (.ifCond .ne 5, 3) := dk_154 0 5 (dk_at dksX8_undo_0 9 rfl rfl)
theorem dX8_undo_12 : decode cX8_undo 12 = .ok (.iconst (-1), 1) := dk_2 (dk_at dksX8_undo_0 12 rfl rfl)
theorem dX8_undo_13 : decode cX8_undo 13 = .ok (.ireturn, 1) := dk_172 (dk_at dksX8_undo_0 13 rfl rfl)
theorem dX8_undo_14 : decode cX8_undo 14 = .ok (.aload_n 0, 1) := dk_42 (dk_at dksX8_undo_0 14 rfl rfl)
theorem dX8_undo_15 : decode cX8_undo 15 = .ok (.dup, 1) := dk_89 (dk_at dksX8_undo_0 15 rfl rfl)
theorem dX8_undo_16 : decode cX8_undo 16 = .ok (.getfield 192, 3) := dk_180 0 192 (dk_at dksX8_undo_0 16 rfl rfl)
theorem dX8_undo_19 : decode cX8_undo 19 = .ok (.iconst 1, 1) := dk_4 (dk_at dksX8_undo_0 19 rfl rfl)
theorem dX8_undo_20 : decode cX8_undo 20 = .ok (.isub, 1) := dk_100 (dk_at dksX8_undo_0 20 rfl rfl)
theorem dX8_undo_21 : decode cX8_undo 21 = .ok (.putfield 192, 3) := dk_181 0 192 (dk_at dksX8_undo_0 21 rfl rfl)
theorem dX8_undo_24 : decode cX8_undo 24 = .ok (.iconst 0, 1) := dk_3 (dk_at dksX8_undo_1 0 rfl rfl)
theorem dX8_undo_25 : decode cX8_undo 25 = .ok (.istore_n 1, 1) := dk_60 (dk_at dksX8_undo_1 1 rfl rfl)
theorem dX8_undo_26 : decode cX8_undo 26 = .ok (.iload_n 1, 1) := dk_27 (dk_at dksX8_undo_1 2 rfl rfl)
theorem dX8_undo_27 : decode cX8_undo 27 = .ok (.bipush 50, 2) := dk_16 50 (dk_at dksX8_undo_1 3 rfl rfl)
theorem dX8_undo_29 : decode cX8_undo 29 = .ok (.if_icmp .ge 29, 3) := dk_162 0 29 (dk_at dksX8_undo_1 5 rfl rfl)
theorem dX8_undo_32 : decode cX8_undo 32 = .ok (.aload_n 0, 1) := dk_42 (dk_at dksX8_undo_1 8 rfl rfl)
theorem dX8_undo_33 : decode cX8_undo 33 = .ok (.getfield 71, 3) := dk_180 0 71 (dk_at dksX8_undo_1 9 rfl rfl)
theorem dX8_undo_36 : decode cX8_undo 36 = .ok (.iload_n 1, 1) := dk_27 (dk_at dksX8_undo_1 12 rfl rfl)
theorem dX8_undo_37 : decode cX8_undo 37 = .ok (.aload_n 0, 1) := dk_42 (dk_at dksX8_undo_1 13 rfl rfl)
theorem dX8_undo_38 : decode cX8_undo 38 = .ok (.getfield 77, 3) := dk_180 0 77 (dk_at dksX8_undo_1 14 rfl rfl)
theorem dX8_undo_41 : decode cX8_undo 41 = .ok (.bipush 50, 2) := dk_16 50 (dk_at dksX8_undo_1 17 rfl rfl)
theorem dX8_undo_43 : decode cX8_undo 43 = .ok (.aload_n 0, 1) := dk_42 (dk_at dksX8_undo_1 19 rfl rfl)
theorem dX8_undo_44 : decode cX8_undo 44 = .ok (.getfield 192, 3) := dk_180 0 192 (dk_at dksX8_undo_1 20 rfl rfl)
theorem dX8_undo_47 : decode cX8_undo 47 = .ok (.imul, 1) := dk_104 (dk_at dksX8_undo_1 23 rfl rfl)
theorem dX8_undo_48 : decode cX8_undo 48 = .ok (.iload_n 1, 1) := dk_27 (dk_at dksX8_undo_2 0 rfl rfl)
theorem dX8_undo_49 : decode cX8_undo 49 = .ok (.iadd, 1) := dk_96 (dk_at dksX8_undo_2 1 rfl rfl)
theorem dX8_undo_50 : decode cX8_undo 50 = .ok (.iaload, 1) := dk_46 (dk_at dksX8_undo_2 2 rfl rfl)
theorem dX8_undo_51 : decode cX8_undo 51 = .ok (.iastore, 1) := dk_79 (dk_at dksX8_undo_2 3 rfl rfl)
theorem dX8_undo_52 : decode cX8_undo 52 = .ok (.iinc 1 1, 3) := dk_132 1 1 (dk_at dksX8_undo_2 4 rfl rfl)
theorem dX8_undo_55 : decode cX8_undo 55 = .ok (.goto (-29), 3) := dk_167 255 227 (dk_at dksX8_undo_2 7 rfl rfl)
theorem dX8_undo_58 : decode cX8_undo 58 = .ok (.aload_n 0, 1) := dk_42 (dk_at dksX8_undo_2 10 rfl rfl)
theorem dX8_undo_59 : decode cX8_undo 59 = .ok (.iconst 0, 1) := dk_3 (dk_at dksX8_undo_2 11 rfl rfl)
theorem dX8_undo_60 : decode cX8_undo 60 = .ok (.putfield 198, 3) := dk_181 0 198 (dk_at dksX8_undo_2 12 rfl rfl)
theorem dX8_undo_63 : decode cX8_undo 63 = .ok (.aload_n 0, 1) := dk_42 (dk_at dksX8_undo_2 15 rfl rfl)
theorem dX8_undo_64 : decode cX8_undo 64 = .ok (.getfield 192, 3) := dk_180 0 192 (dk_at dksX8_undo_2 16 rfl rfl)
theorem dX8_undo_67 : decode cX8_undo 67 = .ok (.ireturn, 1) := dk_172 (dk_at dksX8_undo_2 19 rfl rfl)
abbrev cX8_told : ByteArray := prog_24_method_61_code
def yX8_told : MethodName := ⟨RX8, "told", "(I)I"⟩
def dkwX8_told_6 : List UInt8 := [27, 16, 9, 160, 0, 10, 42, 180, 0, 189, 167, 0, 7, 42, 180, 0, 198, 172]
abbrev dktX8_told_6 : List UInt8 := dkwX8_told_6 ++ []
def dkwX8_told_5 : List UInt8 := [16, 48, 46, 167, 0, 7, 42, 182, 1, 128, 172, 27, 16, 8, 160, 0, 10, 42, 182, 1, 87, 167, 0, 20]
abbrev dktX8_told_5 : List UInt8 := dkwX8_told_5 ++ dktX8_told_6
def dkwX8_told_4 : List UInt8 := [160, 0, 14, 42, 42, 180, 0, 176, 182, 1, 78, 167, 0, 22, 27, 7, 160, 0, 13, 42, 180, 0, 74]
abbrev dktX8_told_4 : List UInt8 := dkwX8_told_4 ++ dktX8_told_5
def dkwX8_told_3 : List UInt8 := [159, 0, 9, 27, 16, 11, 160, 0, 9, 42, 27, 182, 1, 125, 172, 27, 16, 8, 162, 0, 39, 27, 6]
abbrev dktX8_told_3 : List UInt8 := dkwX8_told_3 ++ dktX8_told_4
def dkwX8_told_2 : List UInt8 := [42, 180, 0, 179, 167, 0, 10, 42, 180, 0, 74, 16, 49, 46, 172, 27, 8, 159, 0, 15, 27, 16, 6]
abbrev dktX8_told_2 : List UInt8 := dkwX8_told_2 ++ dktX8_told_3
def dkwX8_told_1 : List UInt8 := [182, 1, 59, 27, 6, 162, 0, 34, 27, 154, 0, 10, 42, 180, 0, 176, 167, 0, 22, 27, 4, 160, 0, 10]
abbrev dktX8_told_1 : List UInt8 := dkwX8_told_1 ++ dktX8_told_2
def dkwX8_told_0 : List UInt8 := [42, 3, 181, 0, 3, 42, 27, 3, 16, 11, 184, 1, 122, 4, 4, 182, 0, 216, 154, 0, 5, 3, 172, 42]
abbrev dktX8_told_0 : List UInt8 := dkwX8_told_0 ++ dktX8_told_1
theorem dksX8_told_0 : cX8_told.data.toList.drop 0 = dktX8_told_0 := by decide +kernel
theorem dksX8_told_1 : cX8_told.data.toList.drop 24 = dktX8_told_1 := dk_seg dksX8_told_0 24 rfl rfl
theorem dksX8_told_2 : cX8_told.data.toList.drop 48 = dktX8_told_2 := dk_seg dksX8_told_1 24 rfl rfl
theorem dksX8_told_3 : cX8_told.data.toList.drop 71 = dktX8_told_3 := dk_seg dksX8_told_2 23 rfl rfl
theorem dksX8_told_4 : cX8_told.data.toList.drop 94 = dktX8_told_4 := dk_seg dksX8_told_3 23 rfl rfl
theorem dksX8_told_5 : cX8_told.data.toList.drop 117 = dktX8_told_5 := dk_seg dksX8_told_4 23 rfl rfl
theorem dksX8_told_6 : cX8_told.data.toList.drop 141 = dktX8_told_6 := dk_seg dksX8_told_5 24 rfl rfl
theorem dX8_told_0 : decode cX8_told 0 = .ok (.aload_n 0, 1) := dk_42 (dk_at dksX8_told_0 0 rfl rfl)
theorem dX8_told_1 : decode cX8_told 1 = .ok (.iconst 0, 1) := dk_3 (dk_at dksX8_told_0 1 rfl rfl)
theorem dX8_told_2 : decode cX8_told 2 = .ok (.putfield 3, 3) := dk_181 0 3 (dk_at dksX8_told_0 2 rfl rfl)
theorem dX8_told_5 : decode cX8_told 5 = .ok (.aload_n 0, 1) := dk_42 (dk_at dksX8_told_0 5 rfl rfl)
theorem dX8_told_6 : decode cX8_told 6 = .ok (.iload_n 1, 1) := dk_27 (dk_at dksX8_told_0 6 rfl rfl)
theorem dX8_told_7 : decode cX8_told 7 = .ok (.iconst 0, 1) := dk_3 (dk_at dksX8_told_0 7 rfl rfl)
theorem dX8_told_8 : decode cX8_told 8 = .ok (.bipush 11, 2) := dk_16 11 (dk_at dksX8_told_0 8 rfl rfl)
theorem dX8_told_10 : decode cX8_told 10 = .ok (.invokestatic 378, 3) := dk_184 1 122 (dk_at dksX8_told_0 10 rfl rfl)
theorem dX8_told_13 : decode cX8_told 13 = .ok (.iconst 1, 1) := dk_4 (dk_at dksX8_told_0 13 rfl rfl)
theorem dX8_told_14 : decode cX8_told 14 = .ok (.iconst 1, 1) := dk_4 (dk_at dksX8_told_0 14 rfl rfl)
theorem dX8_told_15 : decode cX8_told 15 = .ok (.invokevirtual 216, 3) := dk_182 0 216 (dk_at dksX8_told_0 15 rfl rfl)
theorem dX8_told_18 : decode cX8_told 18 = .ok (.ifCond .ne 5, 3) := dk_154 0 5 (dk_at dksX8_told_0 18 rfl rfl)
theorem dX8_told_21 : decode cX8_told 21 = .ok (.iconst 0, 1) := dk_3 (dk_at dksX8_told_0 21 rfl rfl)
theorem dX8_told_22 : decode cX8_told 22 = .ok (.ireturn, 1) := dk_172 (dk_at dksX8_told_0 22 rfl rfl)
theorem dX8_told_23 : decode cX8_told 23 = .ok (.aload_n 0, 1) := dk_42 (dk_at dksX8_told_0 23 rfl rfl)
theorem dX8_told_24 : decode cX8_told 24 = .ok (.invokevirtual 315, 3) := dk_182 1 59 (dk_at dksX8_told_1 0 rfl rfl)
theorem dX8_told_27 : decode cX8_told 27 = .ok (.iload_n 1, 1) := dk_27 (dk_at dksX8_told_1 3 rfl rfl)
theorem dX8_told_28 : decode cX8_told 28 = .ok (.iconst 3, 1) := dk_6 (dk_at dksX8_told_1 4 rfl rfl)
theorem dX8_told_29 : decode cX8_told 29 = .ok (.if_icmp .ge 34, 3) := dk_162 0 34 (dk_at dksX8_told_1 5 rfl rfl)
theorem dX8_told_32 : decode cX8_told 32 = .ok (.iload_n 1, 1) := dk_27 (dk_at dksX8_told_1 8 rfl rfl)
theorem dX8_told_33 : decode cX8_told 33 = .ok (.ifCond .ne 10, 3) := dk_154 0 10 (dk_at dksX8_told_1 9 rfl rfl)
theorem dX8_told_36 : decode cX8_told 36 = .ok (.aload_n 0, 1) := dk_42 (dk_at dksX8_told_1 12 rfl rfl)
theorem dX8_told_37 : decode cX8_told 37 = .ok (.getfield 176, 3) := dk_180 0 176 (dk_at dksX8_told_1 13 rfl rfl)
theorem dX8_told_40 : decode cX8_told 40 = .ok (.goto 22, 3) := dk_167 0 22 (dk_at dksX8_told_1 16 rfl rfl)
theorem dX8_told_43 : decode cX8_told 43 = .ok (.iload_n 1, 1) := dk_27 (dk_at dksX8_told_1 19 rfl rfl)
theorem dX8_told_44 : decode cX8_told 44 = .ok (.iconst 1, 1) := dk_4 (dk_at dksX8_told_1 20 rfl rfl)
theorem dX8_told_45 : decode cX8_told 45 = .ok (.if_icmp .ne 10, 3) := dk_160 0 10 (dk_at dksX8_told_1 21 rfl rfl)
theorem dX8_told_48 : decode cX8_told 48 = .ok (.aload_n 0, 1) := dk_42 (dk_at dksX8_told_2 0 rfl rfl)
theorem dX8_told_49 : decode cX8_told 49 = .ok (.getfield 179, 3) := dk_180 0 179 (dk_at dksX8_told_2 1 rfl rfl)
theorem dX8_told_52 : decode cX8_told 52 = .ok (.goto 10, 3) := dk_167 0 10 (dk_at dksX8_told_2 4 rfl rfl)
theorem dX8_told_55 : decode cX8_told 55 = .ok (.aload_n 0, 1) := dk_42 (dk_at dksX8_told_2 7 rfl rfl)
theorem dX8_told_56 : decode cX8_told 56 = .ok (.getfield 74, 3) := dk_180 0 74 (dk_at dksX8_told_2 8 rfl rfl)
theorem dX8_told_59 : decode cX8_told 59 = .ok (.bipush 49, 2) := dk_16 49 (dk_at dksX8_told_2 11 rfl rfl)
theorem dX8_told_61 : decode cX8_told 61 = .ok (.iaload, 1) := dk_46 (dk_at dksX8_told_2 13 rfl rfl)
theorem dX8_told_62 : decode cX8_told 62 = .ok (.ireturn, 1) := dk_172 (dk_at dksX8_told_2 14 rfl rfl)
theorem dX8_told_63 : decode cX8_told 63 = .ok (.iload_n 1, 1) := dk_27 (dk_at dksX8_told_2 15 rfl rfl)
theorem dX8_told_64 : decode cX8_told 64 = .ok (.iconst 5, 1) := dk_8 (dk_at dksX8_told_2 16 rfl rfl)
theorem dX8_told_65 : decode cX8_told 65 = .ok (.if_icmp .eq 15, 3) := dk_159 0 15 (dk_at dksX8_told_2 17 rfl rfl)
theorem dX8_told_68 : decode cX8_told 68 = .ok (.iload_n 1, 1) := dk_27 (dk_at dksX8_told_2 20 rfl rfl)
theorem dX8_told_69 : decode cX8_told 69 = .ok (.bipush 6, 2) := dk_16 6 (dk_at dksX8_told_2 21 rfl rfl)
theorem dX8_told_71 : decode cX8_told 71 = .ok (.if_icmp .eq 9, 3) := dk_159 0 9 (dk_at dksX8_told_3 0 rfl rfl)
theorem dX8_told_74 : decode cX8_told 74 = .ok (.iload_n 1, 1) := dk_27 (dk_at dksX8_told_3 3 rfl rfl)
theorem dX8_told_75 : decode cX8_told 75 = .ok (.bipush 11, 2) := dk_16 11 (dk_at dksX8_told_3 4 rfl rfl)
theorem dX8_told_77 : decode cX8_told 77 = .ok (.if_icmp .ne 9, 3) := dk_160 0 9 (dk_at dksX8_told_3 6 rfl rfl)
theorem dX8_told_80 : decode cX8_told 80 = .ok (.aload_n 0, 1) := dk_42 (dk_at dksX8_told_3 9 rfl rfl)
theorem dX8_told_81 : decode cX8_told 81 = .ok (.iload_n 1, 1) := dk_27 (dk_at dksX8_told_3 10 rfl rfl)
theorem dX8_told_82 : decode cX8_told 82 = .ok (.invokevirtual 381, 3) := dk_182 1 125 (dk_at dksX8_told_3 11 rfl rfl)
theorem dX8_told_85 : decode cX8_told 85 = .ok (.ireturn, 1) := dk_172 (dk_at dksX8_told_3 14 rfl rfl)
theorem dX8_told_86 : decode cX8_told 86 = .ok (.iload_n 1, 1) := dk_27 (dk_at dksX8_told_3 15 rfl rfl)
theorem dX8_told_87 : decode cX8_told 87 = .ok (.bipush 8, 2) := dk_16 8 (dk_at dksX8_told_3 16 rfl rfl)
theorem dX8_told_89 : decode cX8_told 89 = .ok (.if_icmp .ge 39, 3) := dk_162 0 39 (dk_at dksX8_told_3 18 rfl rfl)
theorem dX8_told_92 : decode cX8_told 92 = .ok (.iload_n 1, 1) := dk_27 (dk_at dksX8_told_3 21 rfl rfl)
theorem dX8_told_93 : decode cX8_told 93 = .ok (.iconst 3, 1) := dk_6 (dk_at dksX8_told_3 22 rfl rfl)
theorem dX8_told_94 : decode cX8_told 94 = .ok (.if_icmp .ne 14, 3) := dk_160 0 14 (dk_at dksX8_told_4 0 rfl rfl)
theorem dX8_told_97 : decode cX8_told 97 = .ok (.aload_n 0, 1) := dk_42 (dk_at dksX8_told_4 3 rfl rfl)
theorem dX8_told_98 : decode cX8_told 98 = .ok (.aload_n 0, 1) := dk_42 (dk_at dksX8_told_4 4 rfl rfl)
theorem dX8_told_99 : decode cX8_told 99 = .ok (.getfield 176, 3) := dk_180 0 176 (dk_at dksX8_told_4 5 rfl rfl)
theorem dX8_told_102 : decode cX8_told 102 = .ok (.invokevirtual 334, 3) := dk_182 1 78 (dk_at dksX8_told_4 8 rfl rfl)
theorem dX8_told_105 : decode cX8_told 105 = .ok (.goto 22, 3) := dk_167 0 22 (dk_at dksX8_told_4 11 rfl rfl)
theorem dX8_told_108 : decode cX8_told 108 = .ok (.iload_n 1, 1) := dk_27 (dk_at dksX8_told_4 14 rfl rfl)
theorem dX8_told_109 : decode cX8_told 109 = .ok (.iconst 4, 1) := dk_7 (dk_at dksX8_told_4 15 rfl rfl)
theorem dX8_told_110 : decode cX8_told 110 = .ok (.if_icmp .ne 13, 3) := dk_160 0 13 (dk_at dksX8_told_4 16 rfl rfl)
theorem dX8_told_113 : decode cX8_told 113 = .ok (.aload_n 0, 1) := dk_42 (dk_at dksX8_told_4 19 rfl rfl)
theorem dX8_told_114 : decode cX8_told 114 = .ok (.getfield 74, 3) := dk_180 0 74 (dk_at dksX8_told_4 20 rfl rfl)
theorem dX8_told_117 : decode cX8_told 117 = .ok (.bipush 48, 2) := dk_16 48 (dk_at dksX8_told_5 0 rfl rfl)
theorem dX8_told_119 : decode cX8_told 119 = .ok (.iaload, 1) := dk_46 (dk_at dksX8_told_5 2 rfl rfl)
theorem dX8_told_120 : decode cX8_told 120 = .ok (.goto 7, 3) := dk_167 0 7 (dk_at dksX8_told_5 3 rfl rfl)
theorem dX8_told_123 : decode cX8_told 123 = .ok (.aload_n 0, 1) := dk_42 (dk_at dksX8_told_5 6 rfl rfl)
theorem dX8_told_124 : decode cX8_told 124 = .ok (.invokevirtual 384, 3) := dk_182 1 128 (dk_at dksX8_told_5 7 rfl rfl)
theorem dX8_told_127 : decode cX8_told 127 = .ok (.ireturn, 1) := dk_172 (dk_at dksX8_told_5 10 rfl rfl)
theorem dX8_told_128 : decode cX8_told 128 = .ok (.iload_n 1, 1) := dk_27 (dk_at dksX8_told_5 11 rfl rfl)
theorem dX8_told_129 : decode cX8_told 129 = .ok (.bipush 8, 2) := dk_16 8 (dk_at dksX8_told_5 12 rfl rfl)
theorem dX8_told_131 : decode cX8_told 131 = .ok (.if_icmp .ne 10, 3) := dk_160 0 10 (dk_at dksX8_told_5 14 rfl rfl)
theorem dX8_told_134 : decode cX8_told 134 = .ok (.aload_n 0, 1) := dk_42 (dk_at dksX8_told_5 17 rfl rfl)
theorem dX8_told_135 : decode cX8_told 135 = .ok (.invokevirtual 343, 3) := dk_182 1 87 (dk_at dksX8_told_5 18 rfl rfl)
theorem dX8_told_138 : decode cX8_told 138 = .ok (.goto 20, 3) := dk_167 0 20 (dk_at dksX8_told_5 21 rfl rfl)
theorem dX8_told_141 : decode cX8_told 141 = .ok (.iload_n 1, 1) := dk_27 (dk_at dksX8_told_6 0 rfl rfl)
theorem dX8_told_142 : decode cX8_told 142 = .ok (.bipush 9, 2) := dk_16 9 (dk_at dksX8_told_6 1 rfl rfl)
theorem dX8_told_144 : decode cX8_told 144 = .ok (.if_icmp .ne 10, 3) := dk_160 0 10 (dk_at dksX8_told_6 3 rfl rfl)
theorem dX8_told_147 : decode cX8_told 147 = .ok (.aload_n 0, 1) := dk_42 (dk_at dksX8_told_6 6 rfl rfl)
theorem dX8_told_148 : decode cX8_told 148 = .ok (.getfield 189, 3) := dk_180 0 189 (dk_at dksX8_told_6 7 rfl rfl)
theorem dX8_told_151 : decode cX8_told 151 = .ok (.goto 7, 3) := dk_167 0 7 (dk_at dksX8_told_6 10 rfl rfl)
theorem dX8_told_154 : decode cX8_told 154 = .ok (.aload_n 0, 1) := dk_42 (dk_at dksX8_told_6 13 rfl rfl)
theorem dX8_told_155 : decode cX8_told 155 = .ok (.getfield 198, 3) := dk_180 0 198 (dk_at dksX8_told_6 14 rfl rfl)
theorem dX8_told_158 : decode cX8_told 158 = .ok (.ireturn, 1) := dk_172 (dk_at dksX8_told_6 17 rfl rfl)
abbrev cX8_within : ByteArray := prog_24_method_3_code
def yX8_within : MethodName := ⟨RX8, "within", "(III)Z"⟩
def dkwX8_within_0 : List UInt8 := [26, 27, 161, 0, 12, 26, 28, 163, 0, 7, 4, 167, 0, 4, 3, 172]
abbrev dktX8_within_0 : List UInt8 := dkwX8_within_0 ++ []
theorem dksX8_within_0 : cX8_within.data.toList.drop 0 = dktX8_within_0 := by decide +kernel
theorem dX8_within_0 : decode cX8_within 0 = .ok (.iload_n 0, 1) := dk_26 (dk_at dksX8_within_0 0 rfl rfl)
theorem dX8_within_1 : decode cX8_within 1 = .ok (.iload_n 1, 1) := dk_27 (dk_at dksX8_within_0 1 rfl rfl)
theorem dX8_within_2 : decode cX8_within 2 = .ok (.if_icmp .lt 12, 3) := dk_161 0 12 (dk_at dksX8_within_0 2 rfl rfl)
theorem dX8_within_5 : decode cX8_within 5 = .ok (.iload_n 0, 1) := dk_26 (dk_at dksX8_within_0 5 rfl rfl)
theorem dX8_within_6 : decode cX8_within 6 = .ok (.iload_n 2, 1) := dk_28 (dk_at dksX8_within_0 6 rfl rfl)
theorem dX8_within_7 : decode cX8_within 7 = .ok (.if_icmp .gt 7, 3) := dk_163 0 7 (dk_at dksX8_within_0 7 rfl rfl)
theorem dX8_within_10 : decode cX8_within 10 = .ok (.iconst 1, 1) := dk_4 (dk_at dksX8_within_0 10 rfl rfl)
theorem dX8_within_11 : decode cX8_within 11 = .ok (.goto 4, 3) := dk_167 0 4 (dk_at dksX8_within_0 11 rfl rfl)
theorem dX8_within_14 : decode cX8_within 14 = .ok (.iconst 0, 1) := dk_3 (dk_at dksX8_within_0 14 rfl rfl)
theorem dX8_within_15 : decode cX8_within 15 = .ok (.ireturn, 1) := dk_172 (dk_at dksX8_within_0 15 rfl rfl)
abbrev cX8_bitsTold : ByteArray := prog_24_method_60_code
def yX8_bitsTold : MethodName := ⟨RX8, "bitsTold", "(I)I"⟩
def dkwX8_bitsTold_3 : List UInt8 := [164, 0, 9, 4, 29, 120, 167, 0, 4, 3, 128, 61, 132, 3, 1, 167, 255, 173, 28, 172]
abbrev dktX8_bitsTold_3 : List UInt8 := dkwX8_bitsTold_3 ++ []
def dkwX8_bitsTold_2 : List UInt8 := [46, 2, 159, 0, 31, 167, 0, 22, 42, 180, 0, 74, 3, 29, 96, 46, 42, 42, 180, 0, 176, 182, 1, 78]
abbrev dktX8_bitsTold_2 : List UInt8 := dkwX8_bitsTold_2 ++ dktX8_bitsTold_3
def dkwX8_bitsTold_1 : List UInt8 := [29, 96, 46, 4, 160, 0, 53, 167, 0, 44, 27, 16, 6, 160, 0, 19, 42, 180, 0, 74, 16, 14, 29, 96]
abbrev dktX8_bitsTold_1 : List UInt8 := dkwX8_bitsTold_1 ++ dktX8_bitsTold_2
def dkwX8_bitsTold_0 : List UInt8 := [3, 61, 3, 62, 29, 42, 180, 0, 179, 162, 0, 81, 28, 27, 8, 160, 0, 19, 42, 180, 0, 74, 16, 35]
abbrev dktX8_bitsTold_0 : List UInt8 := dkwX8_bitsTold_0 ++ dktX8_bitsTold_1
theorem dksX8_bitsTold_0 : cX8_bitsTold.data.toList.drop 0 = dktX8_bitsTold_0 := by decide +kernel
theorem dksX8_bitsTold_1 : cX8_bitsTold.data.toList.drop 24 = dktX8_bitsTold_1 := dk_seg dksX8_bitsTold_0 24 rfl rfl
theorem dksX8_bitsTold_2 : cX8_bitsTold.data.toList.drop 48 = dktX8_bitsTold_2 := dk_seg dksX8_bitsTold_1 24 rfl rfl
theorem dksX8_bitsTold_3 : cX8_bitsTold.data.toList.drop 72 = dktX8_bitsTold_3 := dk_seg dksX8_bitsTold_2 24 rfl rfl
theorem dX8_bitsTold_0 : decode cX8_bitsTold 0 = .ok (.iconst 0, 1) := dk_3 (dk_at dksX8_bitsTold_0 0 rfl rfl)
theorem dX8_bitsTold_1 : decode cX8_bitsTold 1 = .ok (.istore_n 2, 1) := dk_61 (dk_at dksX8_bitsTold_0 1 rfl rfl)
theorem dX8_bitsTold_2 : decode cX8_bitsTold 2 = .ok (.iconst 0, 1) := dk_3 (dk_at dksX8_bitsTold_0 2 rfl rfl)
theorem dX8_bitsTold_3 : decode cX8_bitsTold 3 = .ok (.istore_n 3, 1) := dk_62 (dk_at dksX8_bitsTold_0 3 rfl rfl)
theorem dX8_bitsTold_4 : decode cX8_bitsTold 4 = .ok (.iload_n 3, 1) := dk_29 (dk_at dksX8_bitsTold_0 4 rfl rfl)
theorem dX8_bitsTold_5 : decode cX8_bitsTold 5 = .ok (.aload_n 0, 1) := dk_42 (dk_at dksX8_bitsTold_0 5 rfl rfl)
theorem dX8_bitsTold_6 : decode cX8_bitsTold 6 = .ok (.getfield 179, 3) := dk_180 0 179 (dk_at dksX8_bitsTold_0 6 rfl rfl)
theorem dX8_bitsTold_9 : decode cX8_bitsTold 9 = .ok (.if_icmp .ge 81, 3) := dk_162 0 81 (dk_at dksX8_bitsTold_0 9 rfl rfl)
theorem dX8_bitsTold_12 : decode cX8_bitsTold 12 = .ok (.iload_n 2, 1) := dk_28 (dk_at dksX8_bitsTold_0 12 rfl rfl)
theorem dX8_bitsTold_13 : decode cX8_bitsTold 13 = .ok (.iload_n 1, 1) := dk_27 (dk_at dksX8_bitsTold_0 13 rfl rfl)
theorem dX8_bitsTold_14 : decode cX8_bitsTold 14 = .ok (.iconst 5, 1) := dk_8 (dk_at dksX8_bitsTold_0 14 rfl rfl)
theorem dX8_bitsTold_15 : decode cX8_bitsTold 15 = .ok (.if_icmp .ne 19, 3) := dk_160 0 19 (dk_at dksX8_bitsTold_0 15 rfl rfl)
theorem dX8_bitsTold_18 : decode cX8_bitsTold 18 = .ok (.aload_n 0, 1) := dk_42 (dk_at dksX8_bitsTold_0 18 rfl rfl)
theorem dX8_bitsTold_19 : decode cX8_bitsTold 19 = .ok (.getfield 74, 3) := dk_180 0 74 (dk_at dksX8_bitsTold_0 19 rfl rfl)
theorem dX8_bitsTold_22 : decode cX8_bitsTold 22 = .ok (.bipush 35, 2) := dk_16 35 (dk_at dksX8_bitsTold_0 22 rfl rfl)
theorem dX8_bitsTold_24 : decode cX8_bitsTold 24 = .ok (.iload_n 3, 1) := dk_29 (dk_at dksX8_bitsTold_1 0 rfl rfl)
theorem dX8_bitsTold_25 : decode cX8_bitsTold 25 = .ok (.iadd, 1) := dk_96 (dk_at dksX8_bitsTold_1 1 rfl rfl)
theorem dX8_bitsTold_26 : decode cX8_bitsTold 26 = .ok (.iaload, 1) := dk_46 (dk_at dksX8_bitsTold_1 2 rfl rfl)
theorem dX8_bitsTold_27 : decode cX8_bitsTold 27 = .ok (.iconst 1, 1) := dk_4 (dk_at dksX8_bitsTold_1 3 rfl rfl)
theorem dX8_bitsTold_28 : decode cX8_bitsTold 28 = .ok (.if_icmp .ne 53, 3) := dk_160 0 53 (dk_at dksX8_bitsTold_1 4 rfl rfl)
theorem dX8_bitsTold_31 : decode cX8_bitsTold 31 = .ok (.goto 44, 3) := dk_167 0 44 (dk_at dksX8_bitsTold_1 7 rfl rfl)
theorem dX8_bitsTold_34 : decode cX8_bitsTold 34 = .ok (.iload_n 1, 1) := dk_27 (dk_at dksX8_bitsTold_1 10 rfl rfl)
theorem dX8_bitsTold_35 : decode cX8_bitsTold 35 = .ok (.bipush 6, 2) := dk_16 6 (dk_at dksX8_bitsTold_1 11 rfl rfl)
theorem dX8_bitsTold_37 : decode cX8_bitsTold 37 = .ok (.if_icmp .ne 19, 3) := dk_160 0 19 (dk_at dksX8_bitsTold_1 13 rfl rfl)
theorem dX8_bitsTold_40 : decode cX8_bitsTold 40 = .ok (.aload_n 0, 1) := dk_42 (dk_at dksX8_bitsTold_1 16 rfl rfl)
theorem dX8_bitsTold_41 : decode cX8_bitsTold 41 = .ok (.getfield 74, 3) := dk_180 0 74 (dk_at dksX8_bitsTold_1 17 rfl rfl)
theorem dX8_bitsTold_44 : decode cX8_bitsTold 44 = .ok (.bipush 14, 2) := dk_16 14 (dk_at dksX8_bitsTold_1 20 rfl rfl)
theorem dX8_bitsTold_46 : decode cX8_bitsTold 46 = .ok (.iload_n 3, 1) := dk_29 (dk_at dksX8_bitsTold_1 22 rfl rfl)
theorem dX8_bitsTold_47 : decode cX8_bitsTold 47 = .ok (.iadd, 1) := dk_96 (dk_at dksX8_bitsTold_1 23 rfl rfl)
theorem dX8_bitsTold_48 : decode cX8_bitsTold 48 = .ok (.iaload, 1) := dk_46 (dk_at dksX8_bitsTold_2 0 rfl rfl)
theorem dX8_bitsTold_49 : decode cX8_bitsTold 49 = .ok (.iconst (-1), 1) := dk_2 (dk_at dksX8_bitsTold_2 1 rfl rfl)
theorem dX8_bitsTold_50 : decode cX8_bitsTold 50 = .ok (.if_icmp .eq 31, 3) := dk_159 0 31 (dk_at dksX8_bitsTold_2 2 rfl rfl)
theorem dX8_bitsTold_53 : decode cX8_bitsTold 53 = .ok (.goto 22, 3) := dk_167 0 22 (dk_at dksX8_bitsTold_2 5 rfl rfl)
theorem dX8_bitsTold_56 : decode cX8_bitsTold 56 = .ok (.aload_n 0, 1) := dk_42 (dk_at dksX8_bitsTold_2 8 rfl rfl)
theorem dX8_bitsTold_57 : decode cX8_bitsTold 57 = .ok (.getfield 74, 3) := dk_180 0 74 (dk_at dksX8_bitsTold_2 9 rfl rfl)
theorem dX8_bitsTold_60 : decode cX8_bitsTold 60 = .ok (.iconst 0, 1) := dk_3 (dk_at dksX8_bitsTold_2 12 rfl rfl)
theorem dX8_bitsTold_61 : decode cX8_bitsTold 61 = .ok (.iload_n 3, 1) := dk_29 (dk_at dksX8_bitsTold_2 13 rfl rfl)
theorem dX8_bitsTold_62 : decode cX8_bitsTold 62 = .ok (.iadd, 1) := dk_96 (dk_at dksX8_bitsTold_2 14 rfl rfl)
theorem dX8_bitsTold_63 : decode cX8_bitsTold 63 = .ok (.iaload, 1) := dk_46 (dk_at dksX8_bitsTold_2 15 rfl rfl)
theorem dX8_bitsTold_64 : decode cX8_bitsTold 64 = .ok (.aload_n 0, 1) := dk_42 (dk_at dksX8_bitsTold_2 16 rfl rfl)
theorem dX8_bitsTold_65 : decode cX8_bitsTold 65 = .ok (.aload_n 0, 1) := dk_42 (dk_at dksX8_bitsTold_2 17 rfl rfl)
theorem dX8_bitsTold_66 : decode cX8_bitsTold 66 = .ok (.getfield 176, 3) := dk_180 0 176 (dk_at dksX8_bitsTold_2 18 rfl rfl)
theorem dX8_bitsTold_69 : decode cX8_bitsTold 69 = .ok (.invokevirtual 334, 3) := dk_182 1 78 (dk_at dksX8_bitsTold_2 21 rfl rfl)
theorem dX8_bitsTold_72 : decode cX8_bitsTold 72 = .ok (.if_icmp .le 9, 3) := dk_164 0 9 (dk_at dksX8_bitsTold_3 0 rfl rfl)
theorem dX8_bitsTold_75 : decode cX8_bitsTold 75 = .ok (.iconst 1, 1) := dk_4 (dk_at dksX8_bitsTold_3 3 rfl rfl)
theorem dX8_bitsTold_76 : decode cX8_bitsTold 76 = .ok (.iload_n 3, 1) := dk_29 (dk_at dksX8_bitsTold_3 4 rfl rfl)
theorem dX8_bitsTold_77 : decode cX8_bitsTold 77 = .ok (.ishl, 1) := dk_120 (dk_at dksX8_bitsTold_3 5 rfl rfl)
theorem dX8_bitsTold_78 : decode cX8_bitsTold 78 = .ok (.goto 4, 3) := dk_167 0 4 (dk_at dksX8_bitsTold_3 6 rfl rfl)
theorem dX8_bitsTold_81 : decode cX8_bitsTold 81 = .ok (.iconst 0, 1) := dk_3 (dk_at dksX8_bitsTold_3 9 rfl rfl)
theorem dX8_bitsTold_82 : decode cX8_bitsTold 82 = .ok (.ior, 1) := dk_128 (dk_at dksX8_bitsTold_3 10 rfl rfl)
theorem dX8_bitsTold_83 : decode cX8_bitsTold 83 = .ok (.istore_n 2, 1) := dk_61 (dk_at dksX8_bitsTold_3 11 rfl rfl)
theorem dX8_bitsTold_84 : decode cX8_bitsTold 84 = .ok (.iinc 3 1, 3) := dk_132 3 1 (dk_at dksX8_bitsTold_3 12 rfl rfl)
theorem dX8_bitsTold_87 : decode cX8_bitsTold 87 = .ok (.goto (-83), 3) := dk_167 255 173 (dk_at dksX8_bitsTold_3 15 rfl rfl)
theorem dX8_bitsTold_90 : decode cX8_bitsTold 90 = .ok (.iload_n 2, 1) := dk_28 (dk_at dksX8_bitsTold_3 18 rfl rfl)
theorem dX8_bitsTold_91 : decode cX8_bitsTold 91 = .ok (.ireturn, 1) := dk_172 (dk_at dksX8_bitsTold_3 19 rfl rfl)
abbrev cX8_famousNow : ByteArray := prog_24_method_57_code
def yX8_famousNow : MethodName := ⟨RX8, "famousNow", "()I"⟩
def dkwX8_famousNow_2 : List UInt8 := [132, 2, 1, 167, 255, 212, 27, 172]
abbrev dktX8_famousNow_2 : List UInt8 := dkwX8_famousNow_2 ++ []
def dkwX8_famousNow_1 : List UInt8 := [159, 0, 23, 27, 2, 159, 0, 16, 42, 28, 182, 1, 90, 42, 27, 182, 1, 90, 164, 0, 5, 28, 60]
abbrev dktX8_famousNow_1 : List UInt8 := dkwX8_famousNow_1 ++ dktX8_famousNow_2
def dkwX8_famousNow_0 : List UInt8 := [2, 60, 3, 61, 28, 42, 180, 0, 179, 162, 0, 42, 42, 180, 0, 74, 16, 14, 28, 96, 46, 2]
abbrev dktX8_famousNow_0 : List UInt8 := dkwX8_famousNow_0 ++ dktX8_famousNow_1
theorem dksX8_famousNow_0 : cX8_famousNow.data.toList.drop 0 = dktX8_famousNow_0 := by decide +kernel
theorem dksX8_famousNow_1 : cX8_famousNow.data.toList.drop 22 = dktX8_famousNow_1 := dk_seg dksX8_famousNow_0 22 rfl rfl
theorem dksX8_famousNow_2 : cX8_famousNow.data.toList.drop 45 = dktX8_famousNow_2 := dk_seg dksX8_famousNow_1 23 rfl rfl
theorem dX8_famousNow_0 : decode cX8_famousNow 0 = .ok (.iconst (-1), 1) := dk_2 (dk_at dksX8_famousNow_0 0 rfl rfl)
theorem dX8_famousNow_1 : decode cX8_famousNow 1 = .ok (.istore_n 1, 1) := dk_60 (dk_at dksX8_famousNow_0 1 rfl rfl)
theorem dX8_famousNow_2 : decode cX8_famousNow 2 = .ok (.iconst 0, 1) := dk_3 (dk_at dksX8_famousNow_0 2 rfl rfl)
theorem dX8_famousNow_3 : decode cX8_famousNow 3 = .ok (.istore_n 2, 1) := dk_61 (dk_at dksX8_famousNow_0 3 rfl rfl)
theorem dX8_famousNow_4 : decode cX8_famousNow 4 = .ok (.iload_n 2, 1) := dk_28 (dk_at dksX8_famousNow_0 4 rfl rfl)
theorem dX8_famousNow_5 : decode cX8_famousNow 5 = .ok (.aload_n 0, 1) := dk_42 (dk_at dksX8_famousNow_0 5 rfl rfl)
theorem dX8_famousNow_6 : decode cX8_famousNow 6 = .ok (.getfield 179, 3) := dk_180 0 179 (dk_at dksX8_famousNow_0 6 rfl rfl)
theorem dX8_famousNow_9 : decode cX8_famousNow 9 = .ok (.if_icmp .ge 42, 3) := dk_162 0 42 (dk_at dksX8_famousNow_0 9 rfl rfl)
theorem dX8_famousNow_12 : decode cX8_famousNow 12 = .ok (.aload_n 0, 1) := dk_42 (dk_at dksX8_famousNow_0 12 rfl rfl)
theorem dX8_famousNow_13 : decode cX8_famousNow 13 = .ok (.getfield 74, 3) := dk_180 0 74 (dk_at dksX8_famousNow_0 13 rfl rfl)
theorem dX8_famousNow_16 : decode cX8_famousNow 16 = .ok (.bipush 14, 2) := dk_16 14 (dk_at dksX8_famousNow_0 16 rfl rfl)
theorem dX8_famousNow_18 : decode cX8_famousNow 18 = .ok (.iload_n 2, 1) := dk_28 (dk_at dksX8_famousNow_0 18 rfl rfl)
theorem dX8_famousNow_19 : decode cX8_famousNow 19 = .ok (.iadd, 1) := dk_96 (dk_at dksX8_famousNow_0 19 rfl rfl)
theorem dX8_famousNow_20 : decode cX8_famousNow 20 = .ok (.iaload, 1) := dk_46 (dk_at dksX8_famousNow_0 20 rfl rfl)
theorem dX8_famousNow_21 : decode cX8_famousNow 21 = .ok (.iconst (-1), 1) := dk_2 (dk_at dksX8_famousNow_0 21 rfl rfl)
theorem dX8_famousNow_22 : decode cX8_famousNow 22 = .ok (.if_icmp .eq 23, 3) := dk_159 0 23 (dk_at dksX8_famousNow_1 0 rfl rfl)
theorem dX8_famousNow_25 : decode cX8_famousNow 25 = .ok (.iload_n 1, 1) := dk_27 (dk_at dksX8_famousNow_1 3 rfl rfl)
theorem dX8_famousNow_26 : decode cX8_famousNow 26 = .ok (.iconst (-1), 1) := dk_2 (dk_at dksX8_famousNow_1 4 rfl rfl)
theorem dX8_famousNow_27 : decode cX8_famousNow 27 = .ok (.if_icmp .eq 16, 3) := dk_159 0 16 (dk_at dksX8_famousNow_1 5 rfl rfl)
theorem dX8_famousNow_30 : decode cX8_famousNow 30 = .ok (.aload_n 0, 1) := dk_42 (dk_at dksX8_famousNow_1 8 rfl rfl)
theorem dX8_famousNow_31 : decode cX8_famousNow 31 = .ok (.iload_n 2, 1) := dk_28 (dk_at dksX8_famousNow_1 9 rfl rfl)
theorem dX8_famousNow_32 : decode cX8_famousNow 32 = .ok (.invokevirtual 346, 3) := dk_182 1 90 (dk_at dksX8_famousNow_1 10 rfl rfl)
theorem dX8_famousNow_35 : decode cX8_famousNow 35 = .ok (.aload_n 0, 1) := dk_42 (dk_at dksX8_famousNow_1 13 rfl rfl)
theorem dX8_famousNow_36 : decode cX8_famousNow 36 = .ok (.iload_n 1, 1) := dk_27 (dk_at dksX8_famousNow_1 14 rfl rfl)
theorem dX8_famousNow_37 : decode cX8_famousNow 37 = .ok (.invokevirtual 346, 3) := dk_182 1 90 (dk_at dksX8_famousNow_1 15 rfl rfl)
theorem dX8_famousNow_40 : decode cX8_famousNow 40 = .ok (.if_icmp .le 5, 3) := dk_164 0 5 (dk_at dksX8_famousNow_1 18 rfl rfl)
theorem dX8_famousNow_43 : decode cX8_famousNow 43 = .ok (.iload_n 2, 1) := dk_28 (dk_at dksX8_famousNow_1 21 rfl rfl)
theorem dX8_famousNow_44 : decode cX8_famousNow 44 = .ok (.istore_n 1, 1) := dk_60 (dk_at dksX8_famousNow_1 22 rfl rfl)
theorem dX8_famousNow_45 : decode cX8_famousNow 45 = .ok (.iinc 2 1, 3) := dk_132 2 1 (dk_at dksX8_famousNow_2 0 rfl rfl)
theorem dX8_famousNow_48 : decode cX8_famousNow 48 = .ok (.goto (-44), 3) := dk_167 255 212 (dk_at dksX8_famousNow_2 3 rfl rfl)
theorem dX8_famousNow_51 : decode cX8_famousNow 51 = .ok (.iload_n 1, 1) := dk_27 (dk_at dksX8_famousNow_2 6 rfl rfl)
theorem dX8_famousNow_52 : decode cX8_famousNow 52 = .ok (.ireturn, 1) := dk_172 (dk_at dksX8_famousNow_2 7 rfl rfl)
abbrev cX8_board : ByteArray := prog_24_method_64_code
def yX8_board : MethodName := ⟨RX8, "board", "(II)I"⟩
def dkwX8_board_5 : List UInt8 := [132, 4, 1, 167, 255, 219, 29, 172]
abbrev dktX8_board_5 : List UInt8 := dkwX8_board_5 ++ []
def dkwX8_board_4 : List UInt8 := [42, 180, 0, 74, 16, 14, 21, 4, 96, 46, 27, 160, 0, 10, 4, 21, 4, 120, 167, 0, 4, 3, 128, 62]
abbrev dktX8_board_4 : List UInt8 := dkwX8_board_4 ++ dktX8_board_5
def dkwX8_board_3 : List UInt8 := [167, 0, 8, 42, 27, 182, 1, 78, 172, 3, 62, 3, 54, 4, 21, 4, 42, 180, 0, 179, 162, 0, 34, 29]
abbrev dktX8_board_3 : List UInt8 := dkwX8_board_3 ++ dktX8_board_4
def dkwX8_board_2 : List UInt8 := [28, 96, 46, 172, 28, 7, 162, 0, 26, 28, 5, 160, 0, 15, 42, 180, 0, 74, 16, 42, 27, 96, 46]
abbrev dktX8_board_2 : List UInt8 := dkwX8_board_2 ++ dktX8_board_3
def dkwX8_board_1 : List UInt8 := [182, 0, 216, 154, 0, 5, 3, 172, 42, 182, 1, 59, 28, 5, 162, 0, 14, 42, 180, 0, 35, 5, 27, 104]
abbrev dktX8_board_1 : List UInt8 := dkwX8_board_1 ++ dktX8_board_2
def dkwX8_board_0 : List UInt8 := [42, 3, 181, 0, 3, 42, 27, 4, 182, 1, 131, 153, 0, 18, 42, 28, 3, 7, 184, 1, 122, 5, 4]
abbrev dktX8_board_0 : List UInt8 := dkwX8_board_0 ++ dktX8_board_1
theorem dksX8_board_0 : cX8_board.data.toList.drop 0 = dktX8_board_0 := by decide +kernel
theorem dksX8_board_1 : cX8_board.data.toList.drop 23 = dktX8_board_1 := dk_seg dksX8_board_0 23 rfl rfl
theorem dksX8_board_2 : cX8_board.data.toList.drop 47 = dktX8_board_2 := dk_seg dksX8_board_1 24 rfl rfl
theorem dksX8_board_3 : cX8_board.data.toList.drop 70 = dktX8_board_3 := dk_seg dksX8_board_2 23 rfl rfl
theorem dksX8_board_4 : cX8_board.data.toList.drop 94 = dktX8_board_4 := dk_seg dksX8_board_3 24 rfl rfl
theorem dksX8_board_5 : cX8_board.data.toList.drop 118 = dktX8_board_5 := dk_seg dksX8_board_4 24 rfl rfl
theorem dX8_board_0 : decode cX8_board 0 = .ok (.aload_n 0, 1) := dk_42 (dk_at dksX8_board_0 0 rfl rfl)
theorem dX8_board_1 : decode cX8_board 1 = .ok (.iconst 0, 1) := dk_3 (dk_at dksX8_board_0 1 rfl rfl)
theorem dX8_board_2 : decode cX8_board 2 = .ok (.putfield 3, 3) := dk_181 0 3 (dk_at dksX8_board_0 2 rfl rfl)
theorem dX8_board_5 : decode cX8_board 5 = .ok (.aload_n 0, 1) := dk_42 (dk_at dksX8_board_0 5 rfl rfl)
theorem dX8_board_6 : decode cX8_board 6 = .ok (.iload_n 1, 1) := dk_27 (dk_at dksX8_board_0 6 rfl rfl)
theorem dX8_board_7 : decode cX8_board 7 = .ok (.iconst 1, 1) := dk_4 (dk_at dksX8_board_0 7 rfl rfl)
theorem dX8_board_8 : decode cX8_board 8 = .ok (.invokevirtual 387, 3) := dk_182 1 131 (dk_at dksX8_board_0 8 rfl rfl)
theorem dX8_board_11 : decode cX8_board 11 = .ok (.ifCond .eq 18, 3) := dk_153 0 18 (dk_at dksX8_board_0 11 rfl rfl)
theorem dX8_board_14 : decode cX8_board 14 = .ok (.aload_n 0, 1) := dk_42 (dk_at dksX8_board_0 14 rfl rfl)
theorem dX8_board_15 : decode cX8_board 15 = .ok (.iload_n 2, 1) := dk_28 (dk_at dksX8_board_0 15 rfl rfl)
theorem dX8_board_16 : decode cX8_board 16 = .ok (.iconst 0, 1) := dk_3 (dk_at dksX8_board_0 16 rfl rfl)
theorem dX8_board_17 : decode cX8_board 17 = .ok (.iconst 4, 1) := dk_7 (dk_at dksX8_board_0 17 rfl rfl)
theorem dX8_board_18 : decode cX8_board 18 = .ok (.invokestatic 378, 3) := dk_184 1 122 (dk_at dksX8_board_0 18 rfl rfl)
theorem dX8_board_21 : decode cX8_board 21 = .ok (.iconst 2, 1) := dk_5 (dk_at dksX8_board_0 21 rfl rfl)
theorem dX8_board_22 : decode cX8_board 22 = .ok (.iconst 1, 1) := dk_4 (dk_at dksX8_board_0 22 rfl rfl)
theorem dX8_board_23 : decode cX8_board 23 = .ok (.invokevirtual 216, 3) := dk_182 0 216 (dk_at dksX8_board_1 0 rfl rfl)
theorem dX8_board_26 : decode cX8_board 26 = .ok (.ifCond .ne 5, 3) := dk_154 0 5 (dk_at dksX8_board_1 3 rfl rfl)
theorem dX8_board_29 : decode cX8_board 29 = .ok (.iconst 0, 1) := dk_3 (dk_at dksX8_board_1 6 rfl rfl)
theorem dX8_board_30 : decode cX8_board 30 = .ok (.ireturn, 1) := dk_172 (dk_at dksX8_board_1 7 rfl rfl)
theorem dX8_board_31 : decode cX8_board 31 = .ok (.aload_n 0, 1) := dk_42 (dk_at dksX8_board_1 8 rfl rfl)
theorem dX8_board_32 : decode cX8_board 32 = .ok (.invokevirtual 315, 3) := dk_182 1 59 (dk_at dksX8_board_1 9 rfl rfl)
theorem dX8_board_35 : decode cX8_board 35 = .ok (.iload_n 2, 1) := dk_28 (dk_at dksX8_board_1 12 rfl rfl)
theorem dX8_board_36 : decode cX8_board 36 = .ok (.iconst 2, 1) := dk_5 (dk_at dksX8_board_1 13 rfl rfl)
theorem dX8_board_37 : decode cX8_board 37 = .ok (.if_icmp .ge 14, 3) := dk_162 0 14 (dk_at dksX8_board_1 14 rfl rfl)
theorem dX8_board_40 : decode cX8_board 40 = .ok (.aload_n 0, 1) := dk_42 (dk_at dksX8_board_1 17 rfl rfl)
theorem dX8_board_41 : decode cX8_board 41 = .ok (.getfield 35, 3) := dk_180 0 35 (dk_at dksX8_board_1 18 rfl rfl)
theorem dX8_board_44 : decode cX8_board 44 = .ok (.iconst 2, 1) := dk_5 (dk_at dksX8_board_1 21 rfl rfl)
theorem dX8_board_45 : decode cX8_board 45 = .ok (.iload_n 1, 1) := dk_27 (dk_at dksX8_board_1 22 rfl rfl)
theorem dX8_board_46 : decode cX8_board 46 = .ok (.imul, 1) := dk_104 (dk_at dksX8_board_1 23 rfl rfl)
theorem dX8_board_47 : decode cX8_board 47 = .ok (.iload_n 2, 1) := dk_28 (dk_at dksX8_board_2 0 rfl rfl)
theorem dX8_board_48 : decode cX8_board 48 = .ok (.iadd, 1) := dk_96 (dk_at dksX8_board_2 1 rfl rfl)
theorem dX8_board_49 : decode cX8_board 49 = .ok (.iaload, 1) := dk_46 (dk_at dksX8_board_2 2 rfl rfl)
theorem dX8_board_50 : decode cX8_board 50 = .ok (.ireturn, 1) := dk_172 (dk_at dksX8_board_2 3 rfl rfl)
theorem dX8_board_51 : decode cX8_board 51 = .ok (.iload_n 2, 1) := dk_28 (dk_at dksX8_board_2 4 rfl rfl)
theorem dX8_board_52 : decode cX8_board 52 = .ok (.iconst 4, 1) := dk_7 (dk_at dksX8_board_2 5 rfl rfl)
theorem dX8_board_53 : decode cX8_board 53 = .ok (.if_icmp .ge 26, 3) := dk_162 0 26 (dk_at dksX8_board_2 6 rfl rfl)
theorem dX8_board_56 : decode cX8_board 56 = .ok (.iload_n 2, 1) := dk_28 (dk_at dksX8_board_2 9 rfl rfl)
theorem dX8_board_57 : decode cX8_board 57 = .ok (.iconst 2, 1) := dk_5 (dk_at dksX8_board_2 10 rfl rfl)
theorem dX8_board_58 : decode cX8_board 58 = .ok (.if_icmp .ne 15, 3) := dk_160 0 15 (dk_at dksX8_board_2 11 rfl rfl)
theorem dX8_board_61 : decode cX8_board 61 = .ok (.aload_n 0, 1) := dk_42 (dk_at dksX8_board_2 14 rfl rfl)
theorem dX8_board_62 : decode cX8_board 62 = .ok (.getfield 74, 3) := dk_180 0 74 (dk_at dksX8_board_2 15 rfl rfl)
theorem dX8_board_65 : decode cX8_board 65 = .ok (.bipush 42, 2) := dk_16 42 (dk_at dksX8_board_2 18 rfl rfl)
theorem dX8_board_67 : decode cX8_board 67 = .ok (.iload_n 1, 1) := dk_27 (dk_at dksX8_board_2 20 rfl rfl)
theorem dX8_board_68 : decode cX8_board 68 = .ok (.iadd, 1) := dk_96 (dk_at dksX8_board_2 21 rfl rfl)
theorem dX8_board_69 : decode cX8_board 69 = .ok (.iaload, 1) := dk_46 (dk_at dksX8_board_2 22 rfl rfl)
theorem dX8_board_70 : decode cX8_board 70 = .ok (.goto 8, 3) := dk_167 0 8 (dk_at dksX8_board_3 0 rfl rfl)
theorem dX8_board_73 : decode cX8_board 73 = .ok (.aload_n 0, 1) := dk_42 (dk_at dksX8_board_3 3 rfl rfl)
theorem dX8_board_74 : decode cX8_board 74 = .ok (.iload_n 1, 1) := dk_27 (dk_at dksX8_board_3 4 rfl rfl)
theorem dX8_board_75 : decode cX8_board 75 = .ok (.invokevirtual 334, 3) := dk_182 1 78 (dk_at dksX8_board_3 5 rfl rfl)
theorem dX8_board_78 : decode cX8_board 78 = .ok (.ireturn, 1) := dk_172 (dk_at dksX8_board_3 8 rfl rfl)
theorem dX8_board_79 : decode cX8_board 79 = .ok (.iconst 0, 1) := dk_3 (dk_at dksX8_board_3 9 rfl rfl)
theorem dX8_board_80 : decode cX8_board 80 = .ok (.istore_n 3, 1) := dk_62 (dk_at dksX8_board_3 10 rfl rfl)
theorem dX8_board_81 : decode cX8_board 81 = .ok (.iconst 0, 1) := dk_3 (dk_at dksX8_board_3 11 rfl rfl)
theorem dX8_board_82 : decode cX8_board 82 = .ok (.istore 4, 2) := dk_54 4 (dk_at dksX8_board_3 12 rfl rfl)
theorem dX8_board_84 : decode cX8_board 84 = .ok (.iload 4, 2) := dk_21 4 (dk_at dksX8_board_3 14 rfl rfl)
theorem dX8_board_86 : decode cX8_board 86 = .ok (.aload_n 0, 1) := dk_42 (dk_at dksX8_board_3 16 rfl rfl)
theorem dX8_board_87 : decode cX8_board 87 = .ok (.getfield 179, 3) := dk_180 0 179 (dk_at dksX8_board_3 17 rfl rfl)
theorem dX8_board_90 : decode cX8_board 90 = .ok (.if_icmp .ge 34, 3) := dk_162 0 34 (dk_at dksX8_board_3 20 rfl rfl)
theorem dX8_board_93 : decode cX8_board 93 = .ok (.iload_n 3, 1) := dk_29 (dk_at dksX8_board_3 23 rfl rfl)
theorem dX8_board_94 : decode cX8_board 94 = .ok (.aload_n 0, 1) := dk_42 (dk_at dksX8_board_4 0 rfl rfl)
theorem dX8_board_95 : decode cX8_board 95 = .ok (.getfield 74, 3) := dk_180 0 74 (dk_at dksX8_board_4 1 rfl rfl)
theorem dX8_board_98 : decode cX8_board 98 = .ok (.bipush 14, 2) := dk_16 14 (dk_at dksX8_board_4 4 rfl rfl)
theorem dX8_board_100 : decode cX8_board 100 = .ok (.iload 4, 2) := dk_21 4 (dk_at dksX8_board_4 6 rfl rfl)
theorem dX8_board_102 : decode cX8_board 102 = .ok (.iadd, 1) := dk_96 (dk_at dksX8_board_4 8 rfl rfl)
theorem dX8_board_103 : decode cX8_board 103 = .ok (.iaload, 1) := dk_46 (dk_at dksX8_board_4 9 rfl rfl)
theorem dX8_board_104 : decode cX8_board 104 = .ok (.iload_n 1, 1) := dk_27 (dk_at dksX8_board_4 10 rfl rfl)
theorem dX8_board_105 : decode cX8_board 105 = .ok (.if_icmp .ne 10, 3) := dk_160 0 10 (dk_at dksX8_board_4 11 rfl rfl)
theorem dX8_board_108 : decode cX8_board 108 = .ok (.iconst 1, 1) := dk_4 (dk_at dksX8_board_4 14 rfl rfl)
theorem dX8_board_109 : decode cX8_board 109 = .ok (.iload 4, 2) := dk_21 4 (dk_at dksX8_board_4 15 rfl rfl)
theorem dX8_board_111 : decode cX8_board 111 = .ok (.ishl, 1) := dk_120 (dk_at dksX8_board_4 17 rfl rfl)
theorem dX8_board_112 : decode cX8_board 112 = .ok (.goto 4, 3) := dk_167 0 4 (dk_at dksX8_board_4 18 rfl rfl)
theorem dX8_board_115 : decode cX8_board 115 = .ok (.iconst 0, 1) := dk_3 (dk_at dksX8_board_4 21 rfl rfl)
theorem dX8_board_116 : decode cX8_board 116 = .ok (.ior, 1) := dk_128 (dk_at dksX8_board_4 22 rfl rfl)
theorem dX8_board_117 : decode cX8_board 117 = .ok (.istore_n 3, 1) := dk_62 (dk_at dksX8_board_4 23 rfl rfl)
theorem dX8_board_118 : decode cX8_board 118 = .ok (.iinc 4 1, 3) := dk_132 4 1 (dk_at dksX8_board_5 0 rfl rfl)
theorem dX8_board_121 : decode cX8_board 121 = .ok (.goto (-37), 3) := dk_167 255 219 (dk_at dksX8_board_5 3 rfl rfl)
theorem dX8_board_124 : decode cX8_board 124 = .ok (.iload_n 3, 1) := dk_29 (dk_at dksX8_board_5 6 rfl rfl)
theorem dX8_board_125 : decode cX8_board 125 = .ok (.ireturn, 1) := dk_172 (dk_at dksX8_board_5 7 rfl rfl)
abbrev cX8_isBoard : ByteArray := prog_24_method_62_code
def yX8_isBoard : MethodName := ⟨RX8, "isBoard", "(II)Z"⟩
def dkwX8_isBoard_0 : List UInt8 := [42, 27, 3, 42, 180, 0, 176, 4, 100, 184, 1, 122, 28, 3, 182, 0, 216, 172]
abbrev dktX8_isBoard_0 : List UInt8 := dkwX8_isBoard_0 ++ []
theorem dksX8_isBoard_0 : cX8_isBoard.data.toList.drop 0 = dktX8_isBoard_0 := by decide +kernel
theorem dX8_isBoard_0 : decode cX8_isBoard 0 = .ok (.aload_n 0, 1) := dk_42 (dk_at dksX8_isBoard_0 0 rfl rfl)
theorem dX8_isBoard_1 : decode cX8_isBoard 1 = .ok (.iload_n 1, 1) := dk_27 (dk_at dksX8_isBoard_0 1 rfl rfl)
theorem dX8_isBoard_2 : decode cX8_isBoard 2 = .ok (.iconst 0, 1) := dk_3 (dk_at dksX8_isBoard_0 2 rfl rfl)
theorem dX8_isBoard_3 : decode cX8_isBoard 3 = .ok (.aload_n 0, 1) := dk_42 (dk_at dksX8_isBoard_0 3 rfl rfl)
theorem dX8_isBoard_4 : decode cX8_isBoard 4 = .ok (.getfield 176, 3) := dk_180 0 176 (dk_at dksX8_isBoard_0 4 rfl rfl)
theorem dX8_isBoard_7 : decode cX8_isBoard 7 = .ok (.iconst 1, 1) := dk_4 (dk_at dksX8_isBoard_0 7 rfl rfl)
theorem dX8_isBoard_8 : decode cX8_isBoard 8 = .ok (.isub, 1) := dk_100 (dk_at dksX8_isBoard_0 8 rfl rfl)
theorem dX8_isBoard_9 : decode cX8_isBoard 9 = .ok (.invokestatic 378, 3) := dk_184 1 122 (dk_at dksX8_isBoard_0 9 rfl rfl)
theorem dX8_isBoard_12 : decode cX8_isBoard 12 = .ok (.iload_n 2, 1) := dk_28 (dk_at dksX8_isBoard_0 12 rfl rfl)
theorem dX8_isBoard_13 : decode cX8_isBoard 13 = .ok (.iconst 0, 1) := dk_3 (dk_at dksX8_isBoard_0 13 rfl rfl)
theorem dX8_isBoard_14 : decode cX8_isBoard 14 = .ok (.invokevirtual 216, 3) := dk_182 0 216 (dk_at dksX8_isBoard_0 14 rfl rfl)
theorem dX8_isBoard_17 : decode cX8_isBoard 17 = .ok (.ireturn, 1) := dk_172 (dk_at dksX8_isBoard_0 17 rfl rfl)
abbrev cX8_boy : ByteArray := prog_24_method_65_code
def yX8_boy : MethodName := ⟨RX8, "boy", "(II)I"⟩
def dkwX8_boy_5 : List UInt8 := [16, 35, 167, 0, 5, 16, 28, 27, 96, 46, 172]
abbrev dktX8_boy_5 : List UInt8 := dkwX8_boy_5 ++ []
def dkwX8_boy_4 : List UInt8 := [160, 0, 8, 16, 7, 167, 0, 25, 28, 5, 160, 0, 8, 16, 14, 167, 0, 15, 28, 8, 160, 0, 8]
abbrev dktX8_boy_4 : List UInt8 := dkwX8_boy_4 ++ dktX8_boy_5
def dkwX8_boy_3 : List UInt8 := [180, 0, 41, 27, 46, 167, 0, 50, 42, 180, 0, 74, 28, 154, 0, 7, 3, 167, 0, 35, 28, 4]
abbrev dktX8_boy_3 : List UInt8 := dkwX8_boy_3 ++ dktX8_boy_4
def dkwX8_boy_2 : List UInt8 := [160, 0, 11, 42, 27, 182, 1, 81, 167, 0, 8, 42, 27, 182, 1, 90, 172, 28, 16, 6, 160, 0, 12, 42]
abbrev dktX8_boy_2 : List UInt8 := dkwX8_boy_2 ++ dktX8_boy_3
def dkwX8_boy_1 : List UInt8 := [182, 0, 216, 154, 0, 5, 3, 172, 42, 182, 1, 59, 28, 6, 159, 0, 8, 28, 7, 160, 0, 22, 28, 6]
abbrev dktX8_boy_1 : List UInt8 := dkwX8_boy_1 ++ dktX8_boy_2
def dkwX8_boy_0 : List UInt8 := [42, 3, 181, 0, 3, 42, 27, 4, 182, 1, 134, 153, 0, 19, 42, 28, 3, 16, 7, 184, 1, 122, 5, 4]
abbrev dktX8_boy_0 : List UInt8 := dkwX8_boy_0 ++ dktX8_boy_1
theorem dksX8_boy_0 : cX8_boy.data.toList.drop 0 = dktX8_boy_0 := by decide +kernel
theorem dksX8_boy_1 : cX8_boy.data.toList.drop 24 = dktX8_boy_1 := dk_seg dksX8_boy_0 24 rfl rfl
theorem dksX8_boy_2 : cX8_boy.data.toList.drop 48 = dktX8_boy_2 := dk_seg dksX8_boy_1 24 rfl rfl
theorem dksX8_boy_3 : cX8_boy.data.toList.drop 72 = dktX8_boy_3 := dk_seg dksX8_boy_2 24 rfl rfl
theorem dksX8_boy_4 : cX8_boy.data.toList.drop 94 = dktX8_boy_4 := dk_seg dksX8_boy_3 22 rfl rfl
theorem dksX8_boy_5 : cX8_boy.data.toList.drop 117 = dktX8_boy_5 := dk_seg dksX8_boy_4 23 rfl rfl
theorem dX8_boy_0 : decode cX8_boy 0 = .ok (.aload_n 0, 1) := dk_42 (dk_at dksX8_boy_0 0 rfl rfl)
theorem dX8_boy_1 : decode cX8_boy 1 = .ok (.iconst 0, 1) := dk_3 (dk_at dksX8_boy_0 1 rfl rfl)
theorem dX8_boy_2 : decode cX8_boy 2 = .ok (.putfield 3, 3) := dk_181 0 3 (dk_at dksX8_boy_0 2 rfl rfl)
theorem dX8_boy_5 : decode cX8_boy 5 = .ok (.aload_n 0, 1) := dk_42 (dk_at dksX8_boy_0 5 rfl rfl)
theorem dX8_boy_6 : decode cX8_boy 6 = .ok (.iload_n 1, 1) := dk_27 (dk_at dksX8_boy_0 6 rfl rfl)
theorem dX8_boy_7 : decode cX8_boy 7 = .ok (.iconst 1, 1) := dk_4 (dk_at dksX8_boy_0 7 rfl rfl)
theorem dX8_boy_8 : decode cX8_boy 8 = .ok (.invokevirtual 390, 3) := dk_182 1 134 (dk_at dksX8_boy_0 8 rfl rfl)
theorem dX8_boy_11 : decode cX8_boy 11 = .ok (.ifCond .eq 19, 3) := dk_153 0 19 (dk_at dksX8_boy_0 11 rfl rfl)
theorem dX8_boy_14 : decode cX8_boy 14 = .ok (.aload_n 0, 1) := dk_42 (dk_at dksX8_boy_0 14 rfl rfl)
theorem dX8_boy_15 : decode cX8_boy 15 = .ok (.iload_n 2, 1) := dk_28 (dk_at dksX8_boy_0 15 rfl rfl)
theorem dX8_boy_16 : decode cX8_boy 16 = .ok (.iconst 0, 1) := dk_3 (dk_at dksX8_boy_0 16 rfl rfl)
theorem dX8_boy_17 : decode cX8_boy 17 = .ok (.bipush 7, 2) := dk_16 7 (dk_at dksX8_boy_0 17 rfl rfl)
theorem dX8_boy_19 : decode cX8_boy 19 = .ok (.invokestatic 378, 3) := dk_184 1 122 (dk_at dksX8_boy_0 19 rfl rfl)
theorem dX8_boy_22 : decode cX8_boy 22 = .ok (.iconst 2, 1) := dk_5 (dk_at dksX8_boy_0 22 rfl rfl)
theorem dX8_boy_23 : decode cX8_boy 23 = .ok (.iconst 1, 1) := dk_4 (dk_at dksX8_boy_0 23 rfl rfl)
theorem dX8_boy_24 : decode cX8_boy 24 = .ok (.invokevirtual 216, 3) := dk_182 0 216 (dk_at dksX8_boy_1 0 rfl rfl)
theorem dX8_boy_27 : decode cX8_boy 27 = .ok (.ifCond .ne 5, 3) := dk_154 0 5 (dk_at dksX8_boy_1 3 rfl rfl)
theorem dX8_boy_30 : decode cX8_boy 30 = .ok (.iconst 0, 1) := dk_3 (dk_at dksX8_boy_1 6 rfl rfl)
theorem dX8_boy_31 : decode cX8_boy 31 = .ok (.ireturn, 1) := dk_172 (dk_at dksX8_boy_1 7 rfl rfl)
theorem dX8_boy_32 : decode cX8_boy 32 = .ok (.aload_n 0, 1) := dk_42 (dk_at dksX8_boy_1 8 rfl rfl)
theorem dX8_boy_33 : decode cX8_boy 33 = .ok (.invokevirtual 315, 3) := dk_182 1 59 (dk_at dksX8_boy_1 9 rfl rfl)
theorem dX8_boy_36 : decode cX8_boy 36 = .ok (.iload_n 2, 1) := dk_28 (dk_at dksX8_boy_1 12 rfl rfl)
theorem dX8_boy_37 : decode cX8_boy 37 = .ok (.iconst 3, 1) := dk_6 (dk_at dksX8_boy_1 13 rfl rfl)
theorem dX8_boy_38 : decode cX8_boy 38 = .ok (.if_icmp .eq 8, 3) := dk_159 0 8 (dk_at dksX8_boy_1 14 rfl rfl)
theorem dX8_boy_41 : decode cX8_boy 41 = .ok (.iload_n 2, 1) := dk_28 (dk_at dksX8_boy_1 17 rfl rfl)
theorem dX8_boy_42 : decode cX8_boy 42 = .ok (.iconst 4, 1) := dk_7 (dk_at dksX8_boy_1 18 rfl rfl)
theorem dX8_boy_43 : decode cX8_boy 43 = .ok (.if_icmp .ne 22, 3) := dk_160 0 22 (dk_at dksX8_boy_1 19 rfl rfl)
theorem dX8_boy_46 : decode cX8_boy 46 = .ok (.iload_n 2, 1) := dk_28 (dk_at dksX8_boy_1 22 rfl rfl)
theorem dX8_boy_47 : decode cX8_boy 47 = .ok (.iconst 3, 1) := dk_6 (dk_at dksX8_boy_1 23 rfl rfl)
theorem dX8_boy_48 : decode cX8_boy 48 = .ok (.if_icmp .ne 11, 3) := dk_160 0 11 (dk_at dksX8_boy_2 0 rfl rfl)
theorem dX8_boy_51 : decode cX8_boy 51 = .ok (.aload_n 0, 1) := dk_42 (dk_at dksX8_boy_2 3 rfl rfl)
theorem dX8_boy_52 : decode cX8_boy 52 = .ok (.iload_n 1, 1) := dk_27 (dk_at dksX8_boy_2 4 rfl rfl)
theorem dX8_boy_53 : decode cX8_boy 53 = .ok (.invokevirtual 337, 3) := dk_182 1 81 (dk_at dksX8_boy_2 5 rfl rfl)
theorem dX8_boy_56 : decode cX8_boy 56 = .ok (.goto 8, 3) := dk_167 0 8 (dk_at dksX8_boy_2 8 rfl rfl)
theorem dX8_boy_59 : decode cX8_boy 59 = .ok (.aload_n 0, 1) := dk_42 (dk_at dksX8_boy_2 11 rfl rfl)
theorem dX8_boy_60 : decode cX8_boy 60 = .ok (.iload_n 1, 1) := dk_27 (dk_at dksX8_boy_2 12 rfl rfl)
theorem dX8_boy_61 : decode cX8_boy 61 = .ok (.invokevirtual 346, 3) := dk_182 1 90 (dk_at dksX8_boy_2 13 rfl rfl)
theorem dX8_boy_64 : decode cX8_boy 64 = .ok (.ireturn, 1) := dk_172 (dk_at dksX8_boy_2 16 rfl rfl)
theorem dX8_boy_65 : decode cX8_boy 65 = .ok (.iload_n 2, 1) := dk_28 (dk_at dksX8_boy_2 17 rfl rfl)
theorem dX8_boy_66 : decode cX8_boy 66 = .ok (.bipush 6, 2) := dk_16 6 (dk_at dksX8_boy_2 18 rfl rfl)
theorem dX8_boy_68 : decode cX8_boy 68 = .ok (.if_icmp .ne 12, 3) := dk_160 0 12 (dk_at dksX8_boy_2 20 rfl rfl)
theorem dX8_boy_71 : decode cX8_boy 71 = .ok (.aload_n 0, 1) := dk_42 (dk_at dksX8_boy_2 23 rfl rfl)
theorem dX8_boy_72 : decode cX8_boy 72 = .ok (.getfield 41, 3) := dk_180 0 41 (dk_at dksX8_boy_3 0 rfl rfl)
theorem dX8_boy_75 : decode cX8_boy 75 = .ok (.iload_n 1, 1) := dk_27 (dk_at dksX8_boy_3 3 rfl rfl)
theorem dX8_boy_76 : decode cX8_boy 76 = .ok (.iaload, 1) := dk_46 (dk_at dksX8_boy_3 4 rfl rfl)
theorem dX8_boy_77 : decode cX8_boy 77 = .ok (.goto 50, 3) := dk_167 0 50 (dk_at dksX8_boy_3 5 rfl rfl)
theorem dX8_boy_80 : decode cX8_boy 80 = .ok (.aload_n 0, 1) := dk_42 (dk_at dksX8_boy_3 8 rfl rfl)
theorem dX8_boy_81 : decode cX8_boy 81 = .ok (.getfield 74, 3) := dk_180 0 74 (dk_at dksX8_boy_3 9 rfl rfl)
theorem dX8_boy_84 : decode cX8_boy 84 = .ok (.iload_n 2, 1) := dk_28 (dk_at dksX8_boy_3 12 rfl rfl)
theorem dX8_boy_85 : decode cX8_boy 85 = .ok (.ifCond .ne 7, 3) := dk_154 0 7 (dk_at dksX8_boy_3 13 rfl rfl)
theorem dX8_boy_88 : decode cX8_boy 88 = .ok (.iconst 0, 1) := dk_3 (dk_at dksX8_boy_3 16 rfl rfl)
theorem dX8_boy_89 : decode cX8_boy 89 = .ok (.goto 35, 3) := dk_167 0 35 (dk_at dksX8_boy_3 17 rfl rfl)
theorem dX8_boy_92 : decode cX8_boy 92 = .ok (.iload_n 2, 1) := dk_28 (dk_at dksX8_boy_3 20 rfl rfl)
theorem dX8_boy_93 : decode cX8_boy 93 = .ok (.iconst 1, 1) := dk_4 (dk_at dksX8_boy_3 21 rfl rfl)
theorem dX8_boy_94 : decode cX8_boy 94 = .ok (.if_icmp .ne 8, 3) := dk_160 0 8 (dk_at dksX8_boy_4 0 rfl rfl)
theorem dX8_boy_97 : decode cX8_boy 97 = .ok (.bipush 7, 2) := dk_16 7 (dk_at dksX8_boy_4 3 rfl rfl)
theorem dX8_boy_99 : decode cX8_boy 99 = .ok (.goto 25, 3) := dk_167 0 25 (dk_at dksX8_boy_4 5 rfl rfl)
theorem dX8_boy_102 : decode cX8_boy 102 = .ok (.iload_n 2, 1) := dk_28 (dk_at dksX8_boy_4 8 rfl rfl)
theorem dX8_boy_103 : decode cX8_boy 103 = .ok (.iconst 2, 1) := dk_5 (dk_at dksX8_boy_4 9 rfl rfl)
theorem dX8_boy_104 : decode cX8_boy 104 = .ok (.if_icmp .ne 8, 3) := dk_160 0 8 (dk_at dksX8_boy_4 10 rfl rfl)
theorem dX8_boy_107 : decode cX8_boy 107 = .ok (.bipush 14, 2) := dk_16 14 (dk_at dksX8_boy_4 13 rfl rfl)
theorem dX8_boy_109 : decode cX8_boy 109 = .ok (.goto 15, 3) := dk_167 0 15 (dk_at dksX8_boy_4 15 rfl rfl)
theorem dX8_boy_112 : decode cX8_boy 112 = .ok (.iload_n 2, 1) := dk_28 (dk_at dksX8_boy_4 18 rfl rfl)
theorem dX8_boy_113 : decode cX8_boy 113 = .ok (.iconst 5, 1) := dk_8 (dk_at dksX8_boy_4 19 rfl rfl)
theorem dX8_boy_114 : decode cX8_boy 114 = .ok (.if_icmp .ne 8, 3) := dk_160 0 8 (dk_at dksX8_boy_4 20 rfl rfl)
theorem dX8_boy_117 : decode cX8_boy 117 = .ok (.bipush 35, 2) := dk_16 35 (dk_at dksX8_boy_5 0 rfl rfl)
theorem dX8_boy_119 : decode cX8_boy 119 = .ok (.goto 5, 3) := dk_167 0 5 (dk_at dksX8_boy_5 2 rfl rfl)
theorem dX8_boy_122 : decode cX8_boy 122 = .ok (.bipush 28, 2) := dk_16 28 (dk_at dksX8_boy_5 5 rfl rfl)
theorem dX8_boy_124 : decode cX8_boy 124 = .ok (.iload_n 1, 1) := dk_27 (dk_at dksX8_boy_5 7 rfl rfl)
theorem dX8_boy_125 : decode cX8_boy 125 = .ok (.iadd, 1) := dk_96 (dk_at dksX8_boy_5 8 rfl rfl)
theorem dX8_boy_126 : decode cX8_boy 126 = .ok (.iaload, 1) := dk_46 (dk_at dksX8_boy_5 9 rfl rfl)
theorem dX8_boy_127 : decode cX8_boy 127 = .ok (.ireturn, 1) := dk_172 (dk_at dksX8_boy_5 10 rfl rfl)
abbrev cX8_isBoy : ByteArray := prog_24_method_63_code
def yX8_isBoy : MethodName := ⟨RX8, "isBoy", "(II)Z"⟩
def dkwX8_isBoy_0 : List UInt8 := [42, 27, 3, 42, 180, 0, 179, 4, 100, 184, 1, 122, 28, 3, 182, 0, 216, 172]
abbrev dktX8_isBoy_0 : List UInt8 := dkwX8_isBoy_0 ++ []
theorem dksX8_isBoy_0 : cX8_isBoy.data.toList.drop 0 = dktX8_isBoy_0 := by decide +kernel
theorem dX8_isBoy_0 : decode cX8_isBoy 0 = .ok (.aload_n 0, 1) := dk_42 (dk_at dksX8_isBoy_0 0 rfl rfl)
theorem dX8_isBoy_1 : decode cX8_isBoy 1 = .ok (.iload_n 1, 1) := dk_27 (dk_at dksX8_isBoy_0 1 rfl rfl)
theorem dX8_isBoy_2 : decode cX8_isBoy 2 = .ok (.iconst 0, 1) := dk_3 (dk_at dksX8_isBoy_0 2 rfl rfl)
theorem dX8_isBoy_3 : decode cX8_isBoy 3 = .ok (.aload_n 0, 1) := dk_42 (dk_at dksX8_isBoy_0 3 rfl rfl)
theorem dX8_isBoy_4 : decode cX8_isBoy 4 = .ok (.getfield 179, 3) := dk_180 0 179 (dk_at dksX8_isBoy_0 4 rfl rfl)
theorem dX8_isBoy_7 : decode cX8_isBoy 7 = .ok (.iconst 1, 1) := dk_4 (dk_at dksX8_isBoy_0 7 rfl rfl)
theorem dX8_isBoy_8 : decode cX8_isBoy 8 = .ok (.isub, 1) := dk_100 (dk_at dksX8_isBoy_0 8 rfl rfl)
theorem dX8_isBoy_9 : decode cX8_isBoy 9 = .ok (.invokestatic 378, 3) := dk_184 1 122 (dk_at dksX8_isBoy_0 9 rfl rfl)
theorem dX8_isBoy_12 : decode cX8_isBoy 12 = .ok (.iload_n 2, 1) := dk_28 (dk_at dksX8_isBoy_0 12 rfl rfl)
theorem dX8_isBoy_13 : decode cX8_isBoy 13 = .ok (.iconst 0, 1) := dk_3 (dk_at dksX8_isBoy_0 13 rfl rfl)
theorem dX8_isBoy_14 : decode cX8_isBoy 14 = .ok (.invokevirtual 216, 3) := dk_182 0 216 (dk_at dksX8_isBoy_0 14 rfl rfl)
theorem dX8_isBoy_17 : decode cX8_isBoy 17 = .ok (.ireturn, 1) := dk_172 (dk_at dksX8_isBoy_0 17 rfl rfl)
abbrev cX8_grows : ByteArray := prog_24_method_66_code
def yX8_grows : MethodName := ⟨RX8, "grows", "(I)I"⟩
def dkwX8_grows_1 : List UInt8 := [182, 1, 97, 172]
abbrev dktX8_grows_1 : List UInt8 := dkwX8_grows_1 ++ []
def dkwX8_grows_0 : List UInt8 := [42, 3, 181, 0, 3, 42, 27, 4, 182, 1, 134, 154, 0, 5, 3, 172, 42, 182, 1, 59, 42, 27]
abbrev dktX8_grows_0 : List UInt8 := dkwX8_grows_0 ++ dktX8_grows_1
theorem dksX8_grows_0 : cX8_grows.data.toList.drop 0 = dktX8_grows_0 := by decide +kernel
theorem dksX8_grows_1 : cX8_grows.data.toList.drop 22 = dktX8_grows_1 := dk_seg dksX8_grows_0 22 rfl rfl
theorem dX8_grows_0 : decode cX8_grows 0 = .ok (.aload_n 0, 1) := dk_42 (dk_at dksX8_grows_0 0 rfl rfl)
theorem dX8_grows_1 : decode cX8_grows 1 = .ok (.iconst 0, 1) := dk_3 (dk_at dksX8_grows_0 1 rfl rfl)
theorem dX8_grows_2 : decode cX8_grows 2 = .ok (.putfield 3, 3) := dk_181 0 3 (dk_at dksX8_grows_0 2 rfl rfl)
theorem dX8_grows_5 : decode cX8_grows 5 = .ok (.aload_n 0, 1) := dk_42 (dk_at dksX8_grows_0 5 rfl rfl)
theorem dX8_grows_6 : decode cX8_grows 6 = .ok (.iload_n 1, 1) := dk_27 (dk_at dksX8_grows_0 6 rfl rfl)
theorem dX8_grows_7 : decode cX8_grows 7 = .ok (.iconst 1, 1) := dk_4 (dk_at dksX8_grows_0 7 rfl rfl)
theorem dX8_grows_8 : decode cX8_grows 8 = .ok (.invokevirtual 390, 3) := dk_182 1 134 (dk_at dksX8_grows_0 8 rfl rfl)
theorem dX8_grows_11 : decode cX8_grows 11 = .ok (.ifCond .ne 5, 3) := dk_154 0 5 (dk_at dksX8_grows_0 11 rfl rfl)
theorem dX8_grows_14 : decode cX8_grows 14 = .ok (.iconst 0, 1) := dk_3 (dk_at dksX8_grows_0 14 rfl rfl)
theorem dX8_grows_15 : decode cX8_grows 15 = .ok (.ireturn, 1) := dk_172 (dk_at dksX8_grows_0 15 rfl rfl)
theorem dX8_grows_16 : decode cX8_grows 16 = .ok (.aload_n 0, 1) := dk_42 (dk_at dksX8_grows_0 16 rfl rfl)
theorem dX8_grows_17 : decode cX8_grows 17 = .ok (.invokevirtual 315, 3) := dk_182 1 59 (dk_at dksX8_grows_0 17 rfl rfl)
theorem dX8_grows_20 : decode cX8_grows 20 = .ok (.aload_n 0, 1) := dk_42 (dk_at dksX8_grows_0 20 rfl rfl)
theorem dX8_grows_21 : decode cX8_grows 21 = .ok (.iload_n 1, 1) := dk_27 (dk_at dksX8_grows_0 21 rfl rfl)
theorem dX8_grows_22 : decode cX8_grows 22 = .ok (.invokevirtual 353, 3) := dk_182 1 97 (dk_at dksX8_grows_1 0 rfl rfl)
theorem dX8_grows_25 : decode cX8_grows 25 = .ok (.ireturn, 1) := dk_172 (dk_at dksX8_grows_1 3 rfl rfl)
abbrev cX8_would : ByteArray := prog_24_method_67_code
def yX8_would : MethodName := ⟨RX8, "would", "(IIIIIIII)I"⟩
def dkwX8_would_5 : List UInt8 := [21, 5, 21, 6, 21, 7, 21, 8, 182, 1, 93, 172]
abbrev dktX8_would_5 : List UInt8 := dkwX8_would_5 ++ []
def dkwX8_would_4 : List UInt8 := [153, 0, 7, 4, 167, 0, 4, 3, 4, 4, 182, 0, 216, 154, 0, 5, 3, 172, 42, 27, 28, 29, 21, 4]
abbrev dktX8_would_4 : List UInt8 := dkwX8_would_4 ++ dktX8_would_5
def dkwX8_would_3 : List UInt8 := [153, 0, 30, 21, 7, 3, 17, 23, 106, 184, 1, 122, 153, 0, 18, 21, 8, 3, 16, 6, 184, 1, 122]
abbrev dktX8_would_3 : List UInt8 := dkwX8_would_3 ++ dktX8_would_4
def dkwX8_would_2 : List UInt8 := [21, 5, 17, 252, 25, 17, 3, 231, 184, 1, 122, 153, 0, 41, 21, 6, 3, 16, 11, 184, 1, 122]
abbrev dktX8_would_2 : List UInt8 := dkwX8_would_2 ++ dktX8_would_3
def dkwX8_would_1 : List UInt8 := [153, 0, 76, 29, 3, 16, 6, 184, 1, 122, 153, 0, 66, 21, 4, 3, 16, 9, 184, 1, 122, 153, 0, 55]
abbrev dktX8_would_1 : List UInt8 := dkwX8_would_1 ++ dktX8_would_2
def dkwX8_would_0 : List UInt8 := [42, 3, 181, 0, 3, 42, 27, 3, 16, 9, 184, 1, 122, 153, 0, 87, 28, 4, 17, 3, 231, 184, 1, 122]
abbrev dktX8_would_0 : List UInt8 := dkwX8_would_0 ++ dktX8_would_1
theorem dksX8_would_0 : cX8_would.data.toList.drop 0 = dktX8_would_0 := by decide +kernel
theorem dksX8_would_1 : cX8_would.data.toList.drop 24 = dktX8_would_1 := dk_seg dksX8_would_0 24 rfl rfl
theorem dksX8_would_2 : cX8_would.data.toList.drop 48 = dktX8_would_2 := dk_seg dksX8_would_1 24 rfl rfl
theorem dksX8_would_3 : cX8_would.data.toList.drop 70 = dktX8_would_3 := dk_seg dksX8_would_2 22 rfl rfl
theorem dksX8_would_4 : cX8_would.data.toList.drop 93 = dktX8_would_4 := dk_seg dksX8_would_3 23 rfl rfl
theorem dksX8_would_5 : cX8_would.data.toList.drop 117 = dktX8_would_5 := dk_seg dksX8_would_4 24 rfl rfl
theorem dX8_would_0 : decode cX8_would 0 = .ok (.aload_n 0, 1) := dk_42 (dk_at dksX8_would_0 0 rfl rfl)
theorem dX8_would_1 : decode cX8_would 1 = .ok (.iconst 0, 1) := dk_3 (dk_at dksX8_would_0 1 rfl rfl)
theorem dX8_would_2 : decode cX8_would 2 = .ok (.putfield 3, 3) := dk_181 0 3 (dk_at dksX8_would_0 2 rfl rfl)
theorem dX8_would_5 : decode cX8_would 5 = .ok (.aload_n 0, 1) := dk_42 (dk_at dksX8_would_0 5 rfl rfl)
theorem dX8_would_6 : decode cX8_would 6 = .ok (.iload_n 1, 1) := dk_27 (dk_at dksX8_would_0 6 rfl rfl)
theorem dX8_would_7 : decode cX8_would 7 = .ok (.iconst 0, 1) := dk_3 (dk_at dksX8_would_0 7 rfl rfl)
theorem dX8_would_8 : decode cX8_would 8 = .ok (.bipush 9, 2) := dk_16 9 (dk_at dksX8_would_0 8 rfl rfl)
theorem dX8_would_10 : decode cX8_would 10 = .ok (.invokestatic 378, 3) := dk_184 1 122 (dk_at dksX8_would_0 10 rfl rfl)
theorem dX8_would_13 : decode cX8_would 13 = .ok (.ifCond .eq 87, 3) := dk_153 0 87 (dk_at dksX8_would_0 13 rfl rfl)
theorem dX8_would_16 : decode cX8_would 16 = .ok (.iload_n 2, 1) := dk_28 (dk_at dksX8_would_0 16 rfl rfl)
theorem dX8_would_17 : decode cX8_would 17 = .ok (.iconst 1, 1) := dk_4 (dk_at dksX8_would_0 17 rfl rfl)
theorem dX8_would_18 : decode cX8_would 18 = .ok (.sipush 999, 3) := dk_17 3 231 (dk_at dksX8_would_0 18 rfl rfl)
theorem dX8_would_21 : decode cX8_would 21 = .ok (.invokestatic 378, 3) := dk_184 1 122 (dk_at dksX8_would_0 21 rfl rfl)
theorem dX8_would_24 : decode cX8_would 24 = .ok (.ifCond .eq 76, 3) := dk_153 0 76 (dk_at dksX8_would_1 0 rfl rfl)
theorem dX8_would_27 : decode cX8_would 27 = .ok (.iload_n 3, 1) := dk_29 (dk_at dksX8_would_1 3 rfl rfl)
theorem dX8_would_28 : decode cX8_would 28 = .ok (.iconst 0, 1) := dk_3 (dk_at dksX8_would_1 4 rfl rfl)
theorem dX8_would_29 : decode cX8_would 29 = .ok (.bipush 6, 2) := dk_16 6 (dk_at dksX8_would_1 5 rfl rfl)
theorem dX8_would_31 : decode cX8_would 31 = .ok (.invokestatic 378, 3) := dk_184 1 122 (dk_at dksX8_would_1 7 rfl rfl)
theorem dX8_would_34 : decode cX8_would 34 = .ok (.ifCond .eq 66, 3) := dk_153 0 66 (dk_at dksX8_would_1 10 rfl rfl)
theorem dX8_would_37 : decode cX8_would 37 = .ok (.iload 4, 2) := dk_21 4 (dk_at dksX8_would_1 13 rfl rfl)
theorem dX8_would_39 : decode cX8_would 39 = .ok (.iconst 0, 1) := dk_3 (dk_at dksX8_would_1 15 rfl rfl)
theorem dX8_would_40 : decode cX8_would 40 = .ok (.bipush 9, 2) := dk_16 9 (dk_at dksX8_would_1 16 rfl rfl)
theorem dX8_would_42 : decode cX8_would 42 = .ok (.invokestatic 378, 3) := dk_184 1 122 (dk_at dksX8_would_1 18 rfl rfl)
theorem dX8_would_45 : decode cX8_would 45 = .ok (.ifCond .eq 55, 3) := dk_153 0 55 (dk_at dksX8_would_1 21 rfl rfl)
theorem dX8_would_48 : decode cX8_would 48 = .ok (.iload 5, 2) := dk_21 5 (dk_at dksX8_would_2 0 rfl rfl)
theorem dX8_would_50 : decode cX8_would 50 = .ok (.sipush (-999), 3) := dk_17 252 25 (dk_at dksX8_would_2 2 rfl rfl)
theorem dX8_would_53 : decode cX8_would 53 = .ok (.sipush 999, 3) := dk_17 3 231 (dk_at dksX8_would_2 5 rfl rfl)
theorem dX8_would_56 : decode cX8_would 56 = .ok (.invokestatic 378, 3) := dk_184 1 122 (dk_at dksX8_would_2 8 rfl rfl)
theorem dX8_would_59 : decode cX8_would 59 = .ok (.ifCond .eq 41, 3) := dk_153 0 41 (dk_at dksX8_would_2 11 rfl rfl)
theorem dX8_would_62 : decode cX8_would 62 = .ok (.iload 6, 2) := dk_21 6 (dk_at dksX8_would_2 14 rfl rfl)
theorem dX8_would_64 : decode cX8_would 64 = .ok (.iconst 0, 1) := dk_3 (dk_at dksX8_would_2 16 rfl rfl)
theorem dX8_would_65 : decode cX8_would 65 = .ok (.bipush 11, 2) := dk_16 11 (dk_at dksX8_would_2 17 rfl rfl)
theorem dX8_would_67 : decode cX8_would 67 = .ok (.invokestatic 378, 3) := dk_184 1 122 (dk_at dksX8_would_2 19 rfl rfl)
theorem dX8_would_70 : decode cX8_would 70 = .ok (.ifCond .eq 30, 3) := dk_153 0 30 (dk_at dksX8_would_3 0 rfl rfl)
theorem dX8_would_73 : decode cX8_would 73 = .ok (.iload 7, 2) := dk_21 7 (dk_at dksX8_would_3 3 rfl rfl)
theorem dX8_would_75 : decode cX8_would 75 = .ok (.iconst 0, 1) := dk_3 (dk_at dksX8_would_3 5 rfl rfl)
theorem dX8_would_76 : decode cX8_would 76 = .ok (.sipush 5994, 3) := dk_17 23 106 (dk_at dksX8_would_3 6 rfl rfl)
theorem dX8_would_79 : decode cX8_would 79 = .ok (.invokestatic 378, 3) := dk_184 1 122 (dk_at dksX8_would_3 9 rfl rfl)
theorem dX8_would_82 : decode cX8_would 82 = .ok (.ifCond .eq 18, 3) := dk_153 0 18 (dk_at dksX8_would_3 12 rfl rfl)
theorem dX8_would_85 : decode cX8_would 85 = .ok (.iload 8, 2) := dk_21 8 (dk_at dksX8_would_3 15 rfl rfl)
theorem dX8_would_87 : decode cX8_would 87 = .ok (.iconst 0, 1) := dk_3 (dk_at dksX8_would_3 17 rfl rfl)
theorem dX8_would_88 : decode cX8_would 88 = .ok (.bipush 6, 2) := dk_16 6 (dk_at dksX8_would_3 18 rfl rfl)
theorem dX8_would_90 : decode cX8_would 90 = .ok (.invokestatic 378, 3) := dk_184 1 122 (dk_at dksX8_would_3 20 rfl rfl)
theorem dX8_would_93 : decode cX8_would 93 = .ok (.ifCond .eq 7, 3) := dk_153 0 7 (dk_at dksX8_would_4 0 rfl rfl)
theorem dX8_would_96 : decode cX8_would 96 = .ok (.iconst 1, 1) := dk_4 (dk_at dksX8_would_4 3 rfl rfl)
theorem dX8_would_97 : decode cX8_would 97 = .ok (.goto 4, 3) := dk_167 0 4 (dk_at dksX8_would_4 4 rfl rfl)
theorem dX8_would_100 : decode cX8_would 100 = .ok (.iconst 0, 1) := dk_3 (dk_at dksX8_would_4 7 rfl rfl)
theorem dX8_would_101 : decode cX8_would 101 = .ok (.iconst 1, 1) := dk_4 (dk_at dksX8_would_4 8 rfl rfl)
theorem dX8_would_102 : decode cX8_would 102 = .ok (.iconst 1, 1) := dk_4 (dk_at dksX8_would_4 9 rfl rfl)
theorem dX8_would_103 : decode cX8_would 103 = .ok (.invokevirtual 216, 3) := dk_182 0 216 (dk_at dksX8_would_4 10 rfl rfl)
theorem dX8_would_106 : decode cX8_would 106 = .ok (.ifCond .ne 5, 3) := dk_154 0 5 (dk_at dksX8_would_4 13 rfl rfl)
theorem dX8_would_109 : decode cX8_would 109 = .ok (.iconst 0, 1) := dk_3 (dk_at dksX8_would_4 16 rfl rfl)
theorem dX8_would_110 : decode cX8_would 110 = .ok (.ireturn, 1) := dk_172 (dk_at dksX8_would_4 17 rfl rfl)
theorem dX8_would_111 : decode cX8_would 111 = .ok (.aload_n 0, 1) := dk_42 (dk_at dksX8_would_4 18 rfl rfl)
theorem dX8_would_112 : decode cX8_would 112 = .ok (.iload_n 1, 1) := dk_27 (dk_at dksX8_would_4 19 rfl rfl)
theorem dX8_would_113 : decode cX8_would 113 = .ok (.iload_n 2, 1) := dk_28 (dk_at dksX8_would_4 20 rfl rfl)
theorem dX8_would_114 : decode cX8_would 114 = .ok (.iload_n 3, 1) := dk_29 (dk_at dksX8_would_4 21 rfl rfl)
theorem dX8_would_115 : decode cX8_would 115 = .ok (.iload 4, 2) := dk_21 4 (dk_at dksX8_would_4 22 rfl rfl)
theorem dX8_would_117 : decode cX8_would 117 = .ok (.iload 5, 2) := dk_21 5 (dk_at dksX8_would_5 0 rfl rfl)
theorem dX8_would_119 : decode cX8_would 119 = .ok (.iload 6, 2) := dk_21 6 (dk_at dksX8_would_5 2 rfl rfl)
theorem dX8_would_121 : decode cX8_would 121 = .ok (.iload 7, 2) := dk_21 7 (dk_at dksX8_would_5 4 rfl rfl)
theorem dX8_would_123 : decode cX8_would 123 = .ok (.iload 8, 2) := dk_21 8 (dk_at dksX8_would_5 6 rfl rfl)
theorem dX8_would_125 : decode cX8_would 125 = .ok (.invokevirtual 349, 3) := dk_182 1 93 (dk_at dksX8_would_5 8 rfl rfl)
theorem dX8_would_128 : decode cX8_would 128 = .ok (.ireturn, 1) := dk_172 (dk_at dksX8_would_5 11 rfl rfl)
abbrev cX8_ahead : ByteArray := prog_24_method_69_code
def yX8_ahead : MethodName := ⟨RX8, "ahead", "(II)I"⟩
def dkwX8_ahead_3 : List UInt8 := [182, 1, 78, 167, 0, 19, 28, 4, 160, 0, 10, 42, 182, 1, 137, 167, 0, 7, 42, 182, 1, 128, 172]
abbrev dktX8_ahead_3 : List UInt8 := dkwX8_ahead_3 ++ []
def dkwX8_ahead_2 : List UInt8 := [29, 27, 162, 0, 13, 42, 182, 1, 119, 132, 3, 1, 167, 255, 244, 28, 154, 0, 14, 42, 42, 180, 0, 176]
abbrev dktX8_ahead_2 : List UInt8 := dkwX8_ahead_2 ++ dktX8_ahead_3
def dkwX8_ahead_1 : List UInt8 := [153, 0, 7, 4, 167, 0, 4, 3, 4, 4, 182, 0, 216, 154, 0, 5, 3, 172, 42, 182, 1, 59, 3, 62]
abbrev dktX8_ahead_1 : List UInt8 := dkwX8_ahead_1 ++ dktX8_ahead_2
def dkwX8_ahead_0 : List UInt8 := [42, 3, 181, 0, 3, 42, 27, 3, 16, 99, 184, 1, 122, 153, 0, 16, 28, 3, 5, 184, 1, 122]
abbrev dktX8_ahead_0 : List UInt8 := dkwX8_ahead_0 ++ dktX8_ahead_1
theorem dksX8_ahead_0 : cX8_ahead.data.toList.drop 0 = dktX8_ahead_0 := by decide +kernel
theorem dksX8_ahead_1 : cX8_ahead.data.toList.drop 22 = dktX8_ahead_1 := dk_seg dksX8_ahead_0 22 rfl rfl
theorem dksX8_ahead_2 : cX8_ahead.data.toList.drop 46 = dktX8_ahead_2 := dk_seg dksX8_ahead_1 24 rfl rfl
theorem dksX8_ahead_3 : cX8_ahead.data.toList.drop 70 = dktX8_ahead_3 := dk_seg dksX8_ahead_2 24 rfl rfl
theorem dX8_ahead_0 : decode cX8_ahead 0 = .ok (.aload_n 0, 1) := dk_42 (dk_at dksX8_ahead_0 0 rfl rfl)
theorem dX8_ahead_1 : decode cX8_ahead 1 = .ok (.iconst 0, 1) := dk_3 (dk_at dksX8_ahead_0 1 rfl rfl)
theorem dX8_ahead_2 : decode cX8_ahead 2 = .ok (.putfield 3, 3) := dk_181 0 3 (dk_at dksX8_ahead_0 2 rfl rfl)
theorem dX8_ahead_5 : decode cX8_ahead 5 = .ok (.aload_n 0, 1) := dk_42 (dk_at dksX8_ahead_0 5 rfl rfl)
theorem dX8_ahead_6 : decode cX8_ahead 6 = .ok (.iload_n 1, 1) := dk_27 (dk_at dksX8_ahead_0 6 rfl rfl)
theorem dX8_ahead_7 : decode cX8_ahead 7 = .ok (.iconst 0, 1) := dk_3 (dk_at dksX8_ahead_0 7 rfl rfl)
theorem dX8_ahead_8 : decode cX8_ahead 8 = .ok (.bipush 99, 2) := dk_16 99 (dk_at dksX8_ahead_0 8 rfl rfl)
theorem dX8_ahead_10 : decode cX8_ahead 10 = .ok (.invokestatic 378, 3) := dk_184 1 122 (dk_at dksX8_ahead_0 10 rfl rfl)
theorem dX8_ahead_13 : decode cX8_ahead 13 = .ok (.ifCond .eq 16, 3) := dk_153 0 16 (dk_at dksX8_ahead_0 13 rfl rfl)
theorem dX8_ahead_16 : decode cX8_ahead 16 = .ok (.iload_n 2, 1) := dk_28 (dk_at dksX8_ahead_0 16 rfl rfl)
theorem dX8_ahead_17 : decode cX8_ahead 17 = .ok (.iconst 0, 1) := dk_3 (dk_at dksX8_ahead_0 17 rfl rfl)
theorem dX8_ahead_18 : decode cX8_ahead 18 = .ok (.iconst 2, 1) := dk_5 (dk_at dksX8_ahead_0 18 rfl rfl)
theorem dX8_ahead_19 : decode cX8_ahead 19 = .ok (.invokestatic 378, 3) := dk_184 1 122 (dk_at dksX8_ahead_0 19 rfl rfl)
theorem dX8_ahead_22 : decode cX8_ahead 22 = .ok (.ifCond .eq 7, 3) := dk_153 0 7 (dk_at dksX8_ahead_1 0 rfl rfl)
theorem dX8_ahead_25 : decode cX8_ahead 25 = .ok (.iconst 1, 1) := dk_4 (dk_at dksX8_ahead_1 3 rfl rfl)
theorem dX8_ahead_26 : decode cX8_ahead 26 = .ok (.goto 4, 3) := dk_167 0 4 (dk_at dksX8_ahead_1 4 rfl rfl)
theorem dX8_ahead_29 : decode cX8_ahead 29 = .ok (.iconst 0, 1) := dk_3 (dk_at dksX8_ahead_1 7 rfl rfl)
theorem dX8_ahead_30 : decode cX8_ahead 30 = .ok (.iconst 1, 1) := dk_4 (dk_at dksX8_ahead_1 8 rfl rfl)
theorem dX8_ahead_31 : decode cX8_ahead 31 = .ok (.iconst 1, 1) := dk_4 (dk_at dksX8_ahead_1 9 rfl rfl)
theorem dX8_ahead_32 : decode cX8_ahead 32 = .ok (.invokevirtual 216, 3) := dk_182 0 216 (dk_at dksX8_ahead_1 10 rfl rfl)
theorem dX8_ahead_35 : decode cX8_ahead 35 = .ok (.ifCond .ne 5, 3) := dk_154 0 5 (dk_at dksX8_ahead_1 13 rfl rfl)
theorem dX8_ahead_38 : decode cX8_ahead 38 = .ok (.iconst 0, 1) := dk_3 (dk_at dksX8_ahead_1 16 rfl rfl)
theorem dX8_ahead_39 : decode cX8_ahead 39 = .ok (.ireturn, 1) := dk_172 (dk_at dksX8_ahead_1 17 rfl rfl)
theorem dX8_ahead_40 : decode cX8_ahead 40 = .ok (.aload_n 0, 1) := dk_42 (dk_at dksX8_ahead_1 18 rfl rfl)
theorem dX8_ahead_41 : decode cX8_ahead 41 = .ok (.invokevirtual 315, 3) := dk_182 1 59 (dk_at dksX8_ahead_1 19 rfl rfl)
theorem dX8_ahead_44 : decode cX8_ahead 44 = .ok (.iconst 0, 1) := dk_3 (dk_at dksX8_ahead_1 22 rfl rfl)
theorem dX8_ahead_45 : decode cX8_ahead 45 = .ok (.istore_n 3, 1) := dk_62 (dk_at dksX8_ahead_1 23 rfl rfl)
theorem dX8_ahead_46 : decode cX8_ahead 46 = .ok (.iload_n 3, 1) := dk_29 (dk_at dksX8_ahead_2 0 rfl rfl)
theorem dX8_ahead_47 : decode cX8_ahead 47 = .ok (.iload_n 1, 1) := dk_27 (dk_at dksX8_ahead_2 1 rfl rfl)
theorem dX8_ahead_48 : decode cX8_ahead 48 = .ok (.if_icmp .ge 13, 3) := dk_162 0 13 (dk_at dksX8_ahead_2 2 rfl rfl)
theorem dX8_ahead_51 : decode cX8_ahead 51 = .ok (.aload_n 0, 1) := dk_42 (dk_at dksX8_ahead_2 5 rfl rfl)
theorem dX8_ahead_52 : decode cX8_ahead 52 = .ok (.invokevirtual 375, 3) := dk_182 1 119 (dk_at dksX8_ahead_2 6 rfl rfl)
theorem dX8_ahead_55 : decode cX8_ahead 55 = .ok (.iinc 3 1, 3) := dk_132 3 1 (dk_at dksX8_ahead_2 9 rfl rfl)
theorem dX8_ahead_58 : decode cX8_ahead 58 = .ok (.goto (-12), 3) := dk_167 255 244 (dk_at dksX8_ahead_2 12 rfl rfl)
theorem dX8_ahead_61 : decode cX8_ahead 61 = .ok (.iload_n 2, 1) := dk_28 (dk_at dksX8_ahead_2 15 rfl rfl)
theorem dX8_ahead_62 : decode cX8_ahead 62 = .ok (.ifCond .ne 14, 3) := dk_154 0 14 (dk_at dksX8_ahead_2 16 rfl rfl)
theorem dX8_ahead_65 : decode cX8_ahead 65 = .ok (.aload_n 0, 1) := dk_42 (dk_at dksX8_ahead_2 19 rfl rfl)
theorem dX8_ahead_66 : decode cX8_ahead 66 = .ok (.aload_n 0, 1) := dk_42 (dk_at dksX8_ahead_2 20 rfl rfl)
theorem dX8_ahead_67 : decode cX8_ahead 67 = .ok (.getfield 176, 3) := dk_180 0 176 (dk_at dksX8_ahead_2 21 rfl rfl)
theorem dX8_ahead_70 : decode cX8_ahead 70 = .ok (.invokevirtual 334, 3) := dk_182 1 78 (dk_at dksX8_ahead_3 0 rfl rfl)
theorem dX8_ahead_73 : decode cX8_ahead 73 = .ok (.goto 19, 3) := dk_167 0 19 (dk_at dksX8_ahead_3 3 rfl rfl)
theorem dX8_ahead_76 : decode cX8_ahead 76 = .ok (.iload_n 2, 1) := dk_28 (dk_at dksX8_ahead_3 6 rfl rfl)
theorem dX8_ahead_77 : decode cX8_ahead 77 = .ok (.iconst 1, 1) := dk_4 (dk_at dksX8_ahead_3 7 rfl rfl)
theorem dX8_ahead_78 : decode cX8_ahead 78 = .ok (.if_icmp .ne 10, 3) := dk_160 0 10 (dk_at dksX8_ahead_3 8 rfl rfl)
theorem dX8_ahead_81 : decode cX8_ahead 81 = .ok (.aload_n 0, 1) := dk_42 (dk_at dksX8_ahead_3 11 rfl rfl)
theorem dX8_ahead_82 : decode cX8_ahead 82 = .ok (.invokevirtual 393, 3) := dk_182 1 137 (dk_at dksX8_ahead_3 12 rfl rfl)
theorem dX8_ahead_85 : decode cX8_ahead 85 = .ok (.goto 7, 3) := dk_167 0 7 (dk_at dksX8_ahead_3 15 rfl rfl)
theorem dX8_ahead_88 : decode cX8_ahead 88 = .ok (.aload_n 0, 1) := dk_42 (dk_at dksX8_ahead_3 18 rfl rfl)
theorem dX8_ahead_89 : decode cX8_ahead 89 = .ok (.invokevirtual 384, 3) := dk_182 1 128 (dk_at dksX8_ahead_3 19 rfl rfl)
theorem dX8_ahead_92 : decode cX8_ahead 92 = .ok (.ireturn, 1) := dk_172 (dk_at dksX8_ahead_3 22 rfl rfl)
abbrev cX8_highAll : ByteArray := prog_24_method_68_code
def yX8_highAll : MethodName := ⟨RX8, "highAll", "()I"⟩
def dkwX8_highAll_1 : List UInt8 := [132, 2, 1, 167, 255, 234, 27, 172]
abbrev dktX8_highAll_1 : List UInt8 := dkwX8_highAll_1 ++ []
def dkwX8_highAll_0 : List UInt8 := [3, 60, 3, 61, 28, 42, 180, 0, 179, 162, 0, 20, 27, 42, 180, 0, 74, 3, 28, 96, 46, 96, 60]
abbrev dktX8_highAll_0 : List UInt8 := dkwX8_highAll_0 ++ dktX8_highAll_1
theorem dksX8_highAll_0 : cX8_highAll.data.toList.drop 0 = dktX8_highAll_0 := by decide +kernel
theorem dksX8_highAll_1 : cX8_highAll.data.toList.drop 23 = dktX8_highAll_1 := dk_seg dksX8_highAll_0 23 rfl rfl
theorem dX8_highAll_0 : decode cX8_highAll 0 = .ok (.iconst 0, 1) := dk_3 (dk_at dksX8_highAll_0 0 rfl rfl)
theorem dX8_highAll_1 : decode cX8_highAll 1 = .ok (.istore_n 1, 1) := dk_60 (dk_at dksX8_highAll_0 1 rfl rfl)
theorem dX8_highAll_2 : decode cX8_highAll 2 = .ok (.iconst 0, 1) := dk_3 (dk_at dksX8_highAll_0 2 rfl rfl)
theorem dX8_highAll_3 : decode cX8_highAll 3 = .ok (.istore_n 2, 1) := dk_61 (dk_at dksX8_highAll_0 3 rfl rfl)
theorem dX8_highAll_4 : decode cX8_highAll 4 = .ok (.iload_n 2, 1) := dk_28 (dk_at dksX8_highAll_0 4 rfl rfl)
theorem dX8_highAll_5 : decode cX8_highAll 5 = .ok (.aload_n 0, 1) := dk_42 (dk_at dksX8_highAll_0 5 rfl rfl)
theorem dX8_highAll_6 : decode cX8_highAll 6 = .ok (.getfield 179, 3) := dk_180 0 179 (dk_at dksX8_highAll_0 6 rfl rfl)
theorem dX8_highAll_9 : decode cX8_highAll 9 = .ok (.if_icmp .ge 20, 3) := dk_162 0 20 (dk_at dksX8_highAll_0 9 rfl rfl)
theorem dX8_highAll_12 : decode cX8_highAll 12 = .ok (.iload_n 1, 1) := dk_27 (dk_at dksX8_highAll_0 12 rfl rfl)
theorem dX8_highAll_13 : decode cX8_highAll 13 = .ok (.aload_n 0, 1) := dk_42 (dk_at dksX8_highAll_0 13 rfl rfl)
theorem dX8_highAll_14 : decode cX8_highAll 14 = .ok (.getfield 74, 3) := dk_180 0 74 (dk_at dksX8_highAll_0 14 rfl rfl)
theorem dX8_highAll_17 : decode cX8_highAll 17 = .ok (.iconst 0, 1) := dk_3 (dk_at dksX8_highAll_0 17 rfl rfl)
theorem dX8_highAll_18 : decode cX8_highAll 18 = .ok (.iload_n 2, 1) := dk_28 (dk_at dksX8_highAll_0 18 rfl rfl)
theorem dX8_highAll_19 : decode cX8_highAll 19 = .ok (.iadd, 1) := dk_96 (dk_at dksX8_highAll_0 19 rfl rfl)
theorem dX8_highAll_20 : decode cX8_highAll 20 = .ok (.iaload, 1) := dk_46 (dk_at dksX8_highAll_0 20 rfl rfl)
theorem dX8_highAll_21 : decode cX8_highAll 21 = .ok (.iadd, 1) := dk_96 (dk_at dksX8_highAll_0 21 rfl rfl)
theorem dX8_highAll_22 : decode cX8_highAll 22 = .ok (.istore_n 1, 1) := dk_60 (dk_at dksX8_highAll_0 22 rfl rfl)
theorem dX8_highAll_23 : decode cX8_highAll 23 = .ok (.iinc 2 1, 3) := dk_132 2 1 (dk_at dksX8_highAll_1 0 rfl rfl)
theorem dX8_highAll_26 : decode cX8_highAll 26 = .ok (.goto (-22), 3) := dk_167 255 234 (dk_at dksX8_highAll_1 3 rfl rfl)
theorem dX8_highAll_29 : decode cX8_highAll 29 = .ok (.iload_n 1, 1) := dk_27 (dk_at dksX8_highAll_1 6 rfl rfl)
theorem dX8_highAll_30 : decode cX8_highAll 30 = .ok (.ireturn, 1) := dk_172 (dk_at dksX8_highAll_1 7 rfl rfl)
abbrev cX8_passes : ByteArray := prog_24_method_70_code
def yX8_passes : MethodName := ⟨RX8, "passes", "(II)I"⟩
def dkwX8_passes_3 : List UInt8 := [164, 0, 5, 29, 172, 42, 182, 1, 119, 132, 3, 1, 167, 255, 222, 2, 172]
abbrev dktX8_passes_3 : List UInt8 := dkwX8_passes_3 ++ []
def dkwX8_passes_2 : List UInt8 := [3, 62, 29, 16, 99, 163, 0, 34, 42, 180, 0, 74, 3, 27, 96, 46, 42, 180, 0, 74, 3, 28, 96, 46]
abbrev dktX8_passes_2 : List UInt8 := dkwX8_passes_2 ++ dktX8_passes_3
def dkwX8_passes_1 : List UInt8 := [27, 28, 159, 0, 7, 4, 167, 0, 4, 3, 5, 4, 182, 0, 216, 154, 0, 5, 3, 172, 42, 182, 1, 59]
abbrev dktX8_passes_1 : List UInt8 := dkwX8_passes_1 ++ dktX8_passes_2
def dkwX8_passes_0 : List UInt8 := [42, 3, 181, 0, 3, 42, 27, 4, 182, 1, 134, 153, 0, 31, 42, 28, 4, 182, 1, 134, 153, 0, 22, 42]
abbrev dktX8_passes_0 : List UInt8 := dkwX8_passes_0 ++ dktX8_passes_1
theorem dksX8_passes_0 : cX8_passes.data.toList.drop 0 = dktX8_passes_0 := by decide +kernel
theorem dksX8_passes_1 : cX8_passes.data.toList.drop 24 = dktX8_passes_1 := dk_seg dksX8_passes_0 24 rfl rfl
theorem dksX8_passes_2 : cX8_passes.data.toList.drop 48 = dktX8_passes_2 := dk_seg dksX8_passes_1 24 rfl rfl
theorem dksX8_passes_3 : cX8_passes.data.toList.drop 72 = dktX8_passes_3 := dk_seg dksX8_passes_2 24 rfl rfl
theorem dX8_passes_0 : decode cX8_passes 0 = .ok (.aload_n 0, 1) := dk_42 (dk_at dksX8_passes_0 0 rfl rfl)
theorem dX8_passes_1 : decode cX8_passes 1 = .ok (.iconst 0, 1) := dk_3 (dk_at dksX8_passes_0 1 rfl rfl)
theorem dX8_passes_2 : decode cX8_passes 2 = .ok (.putfield 3, 3) := dk_181 0 3 (dk_at dksX8_passes_0 2 rfl rfl)
theorem dX8_passes_5 : decode cX8_passes 5 = .ok (.aload_n 0, 1) := dk_42 (dk_at dksX8_passes_0 5 rfl rfl)
theorem dX8_passes_6 : decode cX8_passes 6 = .ok (.iload_n 1, 1) := dk_27 (dk_at dksX8_passes_0 6 rfl rfl)
theorem dX8_passes_7 : decode cX8_passes 7 = .ok (.iconst 1, 1) := dk_4 (dk_at dksX8_passes_0 7 rfl rfl)
theorem dX8_passes_8 : decode cX8_passes 8 = .ok (.invokevirtual 390, 3) := dk_182 1 134 (dk_at dksX8_passes_0 8 rfl rfl)
theorem dX8_passes_11 : decode cX8_passes 11 = .ok (.ifCond .eq 31, 3) := dk_153 0 31 (dk_at dksX8_passes_0 11 rfl rfl)
theorem dX8_passes_14 : decode cX8_passes 14 = .ok (.aload_n 0, 1) := dk_42 (dk_at dksX8_passes_0 14 rfl rfl)
theorem dX8_passes_15 : decode cX8_passes 15 = .ok (.iload_n 2, 1) := dk_28 (dk_at dksX8_passes_0 15 rfl rfl)
theorem dX8_passes_16 : decode cX8_passes 16 = .ok (.iconst 1, 1) := dk_4 (dk_at dksX8_passes_0 16 rfl rfl)
theorem dX8_passes_17 : decode cX8_passes 17 = .ok (.invokevirtual 390, 3) := dk_182 1 134 (dk_at dksX8_passes_0 17 rfl rfl)
theorem dX8_passes_20 : decode cX8_passes 20 = .ok (.ifCond .eq 22, 3) := dk_153 0 22 (dk_at dksX8_passes_0 20 rfl rfl)
theorem dX8_passes_23 : decode cX8_passes 23 = .ok (.aload_n 0, 1) := dk_42 (dk_at dksX8_passes_0 23 rfl rfl)
theorem dX8_passes_24 : decode cX8_passes 24 = .ok (.iload_n 1, 1) := dk_27 (dk_at dksX8_passes_1 0 rfl rfl)
theorem dX8_passes_25 : decode cX8_passes 25 = .ok (.iload_n 2, 1) := dk_28 (dk_at dksX8_passes_1 1 rfl rfl)
theorem dX8_passes_26 : decode cX8_passes 26 = .ok (.if_icmp .eq 7, 3) := dk_159 0 7 (dk_at dksX8_passes_1 2 rfl rfl)
theorem dX8_passes_29 : decode cX8_passes 29 = .ok (.iconst 1, 1) := dk_4 (dk_at dksX8_passes_1 5 rfl rfl)
theorem dX8_passes_30 : decode cX8_passes 30 = .ok (.goto 4, 3) := dk_167 0 4 (dk_at dksX8_passes_1 6 rfl rfl)
theorem dX8_passes_33 : decode cX8_passes 33 = .ok (.iconst 0, 1) := dk_3 (dk_at dksX8_passes_1 9 rfl rfl)
theorem dX8_passes_34 : decode cX8_passes 34 = .ok (.iconst 2, 1) := dk_5 (dk_at dksX8_passes_1 10 rfl rfl)
theorem dX8_passes_35 : decode cX8_passes 35 = .ok (.iconst 1, 1) := dk_4 (dk_at dksX8_passes_1 11 rfl rfl)
theorem dX8_passes_36 : decode cX8_passes 36 = .ok (.invokevirtual 216, 3) := dk_182 0 216 (dk_at dksX8_passes_1 12 rfl rfl)
theorem dX8_passes_39 : decode cX8_passes 39 = .ok (.ifCond .ne 5, 3) := dk_154 0 5 (dk_at dksX8_passes_1 15 rfl rfl)
theorem dX8_passes_42 : decode cX8_passes 42 = .ok (.iconst 0, 1) := dk_3 (dk_at dksX8_passes_1 18 rfl rfl)
theorem dX8_passes_43 : decode cX8_passes 43 = .ok (.ireturn, 1) := dk_172 (dk_at dksX8_passes_1 19 rfl rfl)
theorem dX8_passes_44 : decode cX8_passes 44 = .ok (.aload_n 0, 1) := dk_42 (dk_at dksX8_passes_1 20 rfl rfl)
theorem dX8_passes_45 : decode cX8_passes 45 = .ok (.invokevirtual 315, 3) := dk_182 1 59 (dk_at dksX8_passes_1 21 rfl rfl)
theorem dX8_passes_48 : decode cX8_passes 48 = .ok (.iconst 0, 1) := dk_3 (dk_at dksX8_passes_2 0 rfl rfl)
theorem dX8_passes_49 : decode cX8_passes 49 = .ok (.istore_n 3, 1) := dk_62 (dk_at dksX8_passes_2 1 rfl rfl)
theorem dX8_passes_50 : decode cX8_passes 50 = .ok (.iload_n 3, 1) := dk_29 (dk_at dksX8_passes_2 2 rfl rfl)
theorem dX8_passes_51 : decode cX8_passes 51 = .ok (.bipush 99, 2) := dk_16 99 (dk_at dksX8_passes_2 3 rfl rfl)
theorem dX8_passes_53 : decode cX8_passes 53 = .ok (.if_icmp .gt 34, 3) := dk_163 0 34 (dk_at dksX8_passes_2 5 rfl rfl)
theorem dX8_passes_56 : decode cX8_passes 56 = .ok (.aload_n 0, 1) := dk_42 (dk_at dksX8_passes_2 8 rfl rfl)
theorem dX8_passes_57 : decode cX8_passes 57 = .ok (.getfield 74, 3) := dk_180 0 74 (dk_at dksX8_passes_2 9 rfl rfl)
theorem dX8_passes_60 : decode cX8_passes 60 = .ok (.iconst 0, 1) := dk_3 (dk_at dksX8_passes_2 12 rfl rfl)
theorem dX8_passes_61 : decode cX8_passes 61 = .ok (.iload_n 1, 1) := dk_27 (dk_at dksX8_passes_2 13 rfl rfl)
theorem dX8_passes_62 : decode cX8_passes 62 = .ok (.iadd, 1) := dk_96 (dk_at dksX8_passes_2 14 rfl rfl)
theorem dX8_passes_63 : decode cX8_passes 63 = .ok (.iaload, 1) := dk_46 (dk_at dksX8_passes_2 15 rfl rfl)
theorem dX8_passes_64 : decode cX8_passes 64 = .ok (.aload_n 0, 1) := dk_42 (dk_at dksX8_passes_2 16 rfl rfl)
theorem dX8_passes_65 : decode cX8_passes 65 = .ok (.getfield 74, 3) := dk_180 0 74 (dk_at dksX8_passes_2 17 rfl rfl)
theorem dX8_passes_68 : decode cX8_passes 68 = .ok (.iconst 0, 1) := dk_3 (dk_at dksX8_passes_2 20 rfl rfl)
theorem dX8_passes_69 : decode cX8_passes 69 = .ok (.iload_n 2, 1) := dk_28 (dk_at dksX8_passes_2 21 rfl rfl)
theorem dX8_passes_70 : decode cX8_passes 70 = .ok (.iadd, 1) := dk_96 (dk_at dksX8_passes_2 22 rfl rfl)
theorem dX8_passes_71 : decode cX8_passes 71 = .ok (.iaload, 1) := dk_46 (dk_at dksX8_passes_2 23 rfl rfl)
theorem dX8_passes_72 : decode cX8_passes 72 = .ok (.if_icmp .le 5, 3) := dk_164 0 5 (dk_at dksX8_passes_3 0 rfl rfl)
theorem dX8_passes_75 : decode cX8_passes 75 = .ok (.iload_n 3, 1) := dk_29 (dk_at dksX8_passes_3 3 rfl rfl)
theorem dX8_passes_76 : decode cX8_passes 76 = .ok (.ireturn, 1) := dk_172 (dk_at dksX8_passes_3 4 rfl rfl)
theorem dX8_passes_77 : decode cX8_passes 77 = .ok (.aload_n 0, 1) := dk_42 (dk_at dksX8_passes_3 5 rfl rfl)
theorem dX8_passes_78 : decode cX8_passes 78 = .ok (.invokevirtual 375, 3) := dk_182 1 119 (dk_at dksX8_passes_3 6 rfl rfl)
theorem dX8_passes_81 : decode cX8_passes 81 = .ok (.iinc 3 1, 3) := dk_132 3 1 (dk_at dksX8_passes_3 9 rfl rfl)
theorem dX8_passes_84 : decode cX8_passes 84 = .ok (.goto (-34), 3) := dk_167 255 222 (dk_at dksX8_passes_3 12 rfl rfl)
theorem dX8_passes_87 : decode cX8_passes 87 = .ok (.iconst (-1), 1) := dk_2 (dk_at dksX8_passes_3 15 rfl rfl)
theorem dX8_passes_88 : decode cX8_passes 88 = .ok (.ireturn, 1) := dk_172 (dk_at dksX8_passes_3 16 rfl rfl)
abbrev cX8_sinks : ByteArray := prog_24_method_71_code
def yX8_sinks : MethodName := ⟨RX8, "sinks", "(I)I"⟩
def dkwX8_sinks_2 : List UInt8 := [167, 255, 233, 2, 172]
abbrev dktX8_sinks_2 : List UInt8 := dkwX8_sinks_2 ++ []
def dkwX8_sinks_1 : List UInt8 := [16, 99, 163, 0, 23, 42, 27, 182, 1, 90, 156, 0, 5, 28, 172, 42, 182, 1, 119, 132, 2, 1]
abbrev dktX8_sinks_1 : List UInt8 := dkwX8_sinks_1 ++ dktX8_sinks_2
def dkwX8_sinks_0 : List UInt8 := [42, 3, 181, 0, 3, 42, 27, 4, 182, 1, 134, 154, 0, 5, 3, 172, 42, 182, 1, 59, 3, 61, 28]
abbrev dktX8_sinks_0 : List UInt8 := dkwX8_sinks_0 ++ dktX8_sinks_1
theorem dksX8_sinks_0 : cX8_sinks.data.toList.drop 0 = dktX8_sinks_0 := by decide +kernel
theorem dksX8_sinks_1 : cX8_sinks.data.toList.drop 23 = dktX8_sinks_1 := dk_seg dksX8_sinks_0 23 rfl rfl
theorem dksX8_sinks_2 : cX8_sinks.data.toList.drop 45 = dktX8_sinks_2 := dk_seg dksX8_sinks_1 22 rfl rfl
theorem dX8_sinks_0 : decode cX8_sinks 0 = .ok (.aload_n 0, 1) := dk_42 (dk_at dksX8_sinks_0 0 rfl rfl)
theorem dX8_sinks_1 : decode cX8_sinks 1 = .ok (.iconst 0, 1) := dk_3 (dk_at dksX8_sinks_0 1 rfl rfl)
theorem dX8_sinks_2 : decode cX8_sinks 2 = .ok (.putfield 3, 3) := dk_181 0 3 (dk_at dksX8_sinks_0 2 rfl rfl)
theorem dX8_sinks_5 : decode cX8_sinks 5 = .ok (.aload_n 0, 1) := dk_42 (dk_at dksX8_sinks_0 5 rfl rfl)
theorem dX8_sinks_6 : decode cX8_sinks 6 = .ok (.iload_n 1, 1) := dk_27 (dk_at dksX8_sinks_0 6 rfl rfl)
theorem dX8_sinks_7 : decode cX8_sinks 7 = .ok (.iconst 1, 1) := dk_4 (dk_at dksX8_sinks_0 7 rfl rfl)
theorem dX8_sinks_8 : decode cX8_sinks 8 = .ok (.invokevirtual 390, 3) := dk_182 1 134 (dk_at dksX8_sinks_0 8 rfl rfl)
theorem dX8_sinks_11 : decode cX8_sinks 11 = .ok (.ifCond .ne 5, 3) := dk_154 0 5 (dk_at dksX8_sinks_0 11 rfl rfl)
theorem dX8_sinks_14 : decode cX8_sinks 14 = .ok (.iconst 0, 1) := dk_3 (dk_at dksX8_sinks_0 14 rfl rfl)
theorem dX8_sinks_15 : decode cX8_sinks 15 = .ok (.ireturn, 1) := dk_172 (dk_at dksX8_sinks_0 15 rfl rfl)
theorem dX8_sinks_16 : decode cX8_sinks 16 = .ok (.aload_n 0, 1) := dk_42 (dk_at dksX8_sinks_0 16 rfl rfl)
theorem dX8_sinks_17 : decode cX8_sinks 17 = .ok (.invokevirtual 315, 3) := dk_182 1 59 (dk_at dksX8_sinks_0 17 rfl rfl)
theorem dX8_sinks_20 : decode cX8_sinks 20 = .ok (.iconst 0, 1) := dk_3 (dk_at dksX8_sinks_0 20 rfl rfl)
theorem dX8_sinks_21 : decode cX8_sinks 21 = .ok (.istore_n 2, 1) := dk_61 (dk_at dksX8_sinks_0 21 rfl rfl)
theorem dX8_sinks_22 : decode cX8_sinks 22 = .ok (.iload_n 2, 1) := dk_28 (dk_at dksX8_sinks_0 22 rfl rfl)
theorem dX8_sinks_23 : decode cX8_sinks 23 = .ok (.bipush 99, 2) := dk_16 99 (dk_at dksX8_sinks_1 0 rfl rfl)
theorem dX8_sinks_25 : decode cX8_sinks 25 = .ok (.if_icmp .gt 23, 3) := dk_163 0 23 (dk_at dksX8_sinks_1 2 rfl rfl)
theorem dX8_sinks_28 : decode cX8_sinks 28 = .ok (.aload_n 0, 1) := dk_42 (dk_at dksX8_sinks_1 5 rfl rfl)
theorem dX8_sinks_29 : decode cX8_sinks 29 = .ok (.iload_n 1, 1) := dk_27 (dk_at dksX8_sinks_1 6 rfl rfl)
theorem dX8_sinks_30 : decode cX8_sinks 30 = .ok (.invokevirtual 346, 3) := dk_182 1 90 (dk_at dksX8_sinks_1 7 rfl rfl)
theorem dX8_sinks_33 : decode cX8_sinks 33 = .ok (.ifCond .ge 5, 3) := dk_156 0 5 (dk_at dksX8_sinks_1 10 rfl rfl)
theorem dX8_sinks_36 : decode cX8_sinks 36 = .ok (.iload_n 2, 1) := dk_28 (dk_at dksX8_sinks_1 13 rfl rfl)
theorem dX8_sinks_37 : decode cX8_sinks 37 = .ok (.ireturn, 1) := dk_172 (dk_at dksX8_sinks_1 14 rfl rfl)
theorem dX8_sinks_38 : decode cX8_sinks 38 = .ok (.aload_n 0, 1) := dk_42 (dk_at dksX8_sinks_1 15 rfl rfl)
theorem dX8_sinks_39 : decode cX8_sinks 39 = .ok (.invokevirtual 375, 3) := dk_182 1 119 (dk_at dksX8_sinks_1 16 rfl rfl)
theorem dX8_sinks_42 : decode cX8_sinks 42 = .ok (.iinc 2 1, 3) := dk_132 2 1 (dk_at dksX8_sinks_1 19 rfl rfl)
theorem dX8_sinks_45 : decode cX8_sinks 45 = .ok (.goto (-23), 3) := dk_167 255 233 (dk_at dksX8_sinks_2 0 rfl rfl)
theorem dX8_sinks_48 : decode cX8_sinks 48 = .ok (.iconst (-1), 1) := dk_2 (dk_at dksX8_sinks_2 3 rfl rfl)
theorem dX8_sinks_49 : decode cX8_sinks 49 = .ok (.ireturn, 1) := dk_172 (dk_at dksX8_sinks_2 4 rfl rfl)
abbrev cX8_feeds : ByteArray := prog_24_method_72_code
def yX8_feeds : MethodName := ⟨RX8, "feeds", "(II)I"⟩
def dkwX8_feeds_4 : List UInt8 := [29, 172, 132, 3, 1, 167, 255, 204, 2, 172]
abbrev dktX8_feeds_4 : List UInt8 := dkwX8_feeds_4 ++ []
def dkwX8_feeds_3 : List UInt8 := [21, 4, 28, 162, 0, 13, 42, 182, 1, 119, 132, 4, 1, 167, 255, 243, 42, 27, 182, 1, 90, 155, 0, 5]
abbrev dktX8_feeds_3 : List UInt8 := dkwX8_feeds_3 ++ dktX8_feeds_4
def dkwX8_feeds_2 : List UInt8 := [62, 29, 16, 9, 163, 0, 52, 42, 182, 1, 59, 42, 180, 0, 74, 16, 7, 27, 96, 29, 79, 3, 54, 4]
abbrev dktX8_feeds_2 : List UInt8 := dkwX8_feeds_2 ++ dktX8_feeds_3
def dkwX8_feeds_1 : List UInt8 := [182, 0, 216, 154, 0, 5, 3, 172, 42, 180, 0, 71, 16, 14, 27, 96, 46, 2, 160, 0, 5, 2, 172, 3]
abbrev dktX8_feeds_1 : List UInt8 := dkwX8_feeds_1 ++ dktX8_feeds_2
def dkwX8_feeds_0 : List UInt8 := [42, 3, 181, 0, 3, 42, 27, 4, 182, 1, 134, 153, 0, 19, 42, 28, 3, 16, 99, 184, 1, 122, 5, 4]
abbrev dktX8_feeds_0 : List UInt8 := dkwX8_feeds_0 ++ dktX8_feeds_1
theorem dksX8_feeds_0 : cX8_feeds.data.toList.drop 0 = dktX8_feeds_0 := by decide +kernel
theorem dksX8_feeds_1 : cX8_feeds.data.toList.drop 24 = dktX8_feeds_1 := dk_seg dksX8_feeds_0 24 rfl rfl
theorem dksX8_feeds_2 : cX8_feeds.data.toList.drop 48 = dktX8_feeds_2 := dk_seg dksX8_feeds_1 24 rfl rfl
theorem dksX8_feeds_3 : cX8_feeds.data.toList.drop 72 = dktX8_feeds_3 := dk_seg dksX8_feeds_2 24 rfl rfl
theorem dksX8_feeds_4 : cX8_feeds.data.toList.drop 96 = dktX8_feeds_4 := dk_seg dksX8_feeds_3 24 rfl rfl
theorem dX8_feeds_0 : decode cX8_feeds 0 = .ok (.aload_n 0, 1) := dk_42 (dk_at dksX8_feeds_0 0 rfl rfl)
theorem dX8_feeds_1 : decode cX8_feeds 1 = .ok (.iconst 0, 1) := dk_3 (dk_at dksX8_feeds_0 1 rfl rfl)
theorem dX8_feeds_2 : decode cX8_feeds 2 = .ok (.putfield 3, 3) := dk_181 0 3 (dk_at dksX8_feeds_0 2 rfl rfl)
theorem dX8_feeds_5 : decode cX8_feeds 5 = .ok (.aload_n 0, 1) := dk_42 (dk_at dksX8_feeds_0 5 rfl rfl)
theorem dX8_feeds_6 : decode cX8_feeds 6 = .ok (.iload_n 1, 1) := dk_27 (dk_at dksX8_feeds_0 6 rfl rfl)
theorem dX8_feeds_7 : decode cX8_feeds 7 = .ok (.iconst 1, 1) := dk_4 (dk_at dksX8_feeds_0 7 rfl rfl)
theorem dX8_feeds_8 : decode cX8_feeds 8 = .ok (.invokevirtual 390, 3) := dk_182 1 134 (dk_at dksX8_feeds_0 8 rfl rfl)
theorem dX8_feeds_11 : decode cX8_feeds 11 = .ok (.ifCond .eq 19, 3) := dk_153 0 19 (dk_at dksX8_feeds_0 11 rfl rfl)
theorem dX8_feeds_14 : decode cX8_feeds 14 = .ok (.aload_n 0, 1) := dk_42 (dk_at dksX8_feeds_0 14 rfl rfl)
theorem dX8_feeds_15 : decode cX8_feeds 15 = .ok (.iload_n 2, 1) := dk_28 (dk_at dksX8_feeds_0 15 rfl rfl)
theorem dX8_feeds_16 : decode cX8_feeds 16 = .ok (.iconst 0, 1) := dk_3 (dk_at dksX8_feeds_0 16 rfl rfl)
theorem dX8_feeds_17 : decode cX8_feeds 17 = .ok (.bipush 99, 2) := dk_16 99 (dk_at dksX8_feeds_0 17 rfl rfl)
theorem dX8_feeds_19 : decode cX8_feeds 19 = .ok (.invokestatic 378, 3) := dk_184 1 122 (dk_at dksX8_feeds_0 19 rfl rfl)
theorem dX8_feeds_22 : decode cX8_feeds 22 = .ok (.iconst 2, 1) := dk_5 (dk_at dksX8_feeds_0 22 rfl rfl)
theorem dX8_feeds_23 : decode cX8_feeds 23 = .ok (.iconst 1, 1) := dk_4 (dk_at dksX8_feeds_0 23 rfl rfl)
theorem dX8_feeds_24 : decode cX8_feeds 24 = .ok (.invokevirtual 216, 3) := dk_182 0 216 (dk_at dksX8_feeds_1 0 rfl rfl)
theorem dX8_feeds_27 : decode cX8_feeds 27 = .ok (.ifCond .ne 5, 3) := dk_154 0 5 (dk_at dksX8_feeds_1 3 rfl rfl)
theorem dX8_feeds_30 : decode cX8_feeds 30 = .ok (.iconst 0, 1) := dk_3 (dk_at dksX8_feeds_1 6 rfl rfl)
theorem dX8_feeds_31 : decode cX8_feeds 31 = .ok (.ireturn, 1) := dk_172 (dk_at dksX8_feeds_1 7 rfl rfl)
theorem dX8_feeds_32 : decode cX8_feeds 32 = .ok (.aload_n 0, 1) := dk_42 (dk_at dksX8_feeds_1 8 rfl rfl)
theorem dX8_feeds_33 : decode cX8_feeds 33 = .ok (.getfield 71, 3) := dk_180 0 71 (dk_at dksX8_feeds_1 9 rfl rfl)
theorem dX8_feeds_36 : decode cX8_feeds 36 = .ok (.bipush 14, 2) := dk_16 14 (dk_at dksX8_feeds_1 12 rfl rfl)
theorem dX8_feeds_38 : decode cX8_feeds 38 = .ok (.iload_n 1, 1) := dk_27 (dk_at dksX8_feeds_1 14 rfl rfl)
theorem dX8_feeds_39 : decode cX8_feeds 39 = .ok (.iadd, 1) := dk_96 (dk_at dksX8_feeds_1 15 rfl rfl)
theorem dX8_feeds_40 : decode cX8_feeds 40 = .ok (.iaload, 1) := dk_46 (dk_at dksX8_feeds_1 16 rfl rfl)
theorem dX8_feeds_41 : decode cX8_feeds 41 = .ok (.iconst (-1), 1) := dk_2 (dk_at dksX8_feeds_1 17 rfl rfl)
theorem dX8_feeds_42 : decode cX8_feeds 42 = .ok (.if_icmp .ne 5, 3) := dk_160 0 5 (dk_at dksX8_feeds_1 18 rfl rfl)
theorem dX8_feeds_45 : decode cX8_feeds 45 = .ok (.iconst (-1), 1) := dk_2 (dk_at dksX8_feeds_1 21 rfl rfl)
theorem dX8_feeds_46 : decode cX8_feeds 46 = .ok (.ireturn, 1) := dk_172 (dk_at dksX8_feeds_1 22 rfl rfl)
theorem dX8_feeds_47 : decode cX8_feeds 47 = .ok (.iconst 0, 1) := dk_3 (dk_at dksX8_feeds_1 23 rfl rfl)
theorem dX8_feeds_48 : decode cX8_feeds 48 = .ok (.istore_n 3, 1) := dk_62 (dk_at dksX8_feeds_2 0 rfl rfl)
theorem dX8_feeds_49 : decode cX8_feeds 49 = .ok (.iload_n 3, 1) := dk_29 (dk_at dksX8_feeds_2 1 rfl rfl)
theorem dX8_feeds_50 : decode cX8_feeds 50 = .ok (.bipush 9, 2) := dk_16 9 (dk_at dksX8_feeds_2 2 rfl rfl)
theorem dX8_feeds_52 : decode cX8_feeds 52 = .ok (.if_icmp .gt 52, 3) := dk_163 0 52 (dk_at dksX8_feeds_2 4 rfl rfl)
theorem dX8_feeds_55 : decode cX8_feeds 55 = .ok (.aload_n 0, 1) := dk_42 (dk_at dksX8_feeds_2 7 rfl rfl)
theorem dX8_feeds_56 : decode cX8_feeds 56 = .ok (.invokevirtual 315, 3) := dk_182 1 59 (dk_at dksX8_feeds_2 8 rfl rfl)
theorem dX8_feeds_59 : decode cX8_feeds 59 = .ok (.aload_n 0, 1) := dk_42 (dk_at dksX8_feeds_2 11 rfl rfl)
theorem dX8_feeds_60 : decode cX8_feeds 60 = .ok (.getfield 74, 3) := dk_180 0 74 (dk_at dksX8_feeds_2 12 rfl rfl)
theorem dX8_feeds_63 : decode cX8_feeds 63 = .ok (.bipush 7, 2) := dk_16 7 (dk_at dksX8_feeds_2 15 rfl rfl)
theorem dX8_feeds_65 : decode cX8_feeds 65 = .ok (.iload_n 1, 1) := dk_27 (dk_at dksX8_feeds_2 17 rfl rfl)
theorem dX8_feeds_66 : decode cX8_feeds 66 = .ok (.iadd, 1) := dk_96 (dk_at dksX8_feeds_2 18 rfl rfl)
theorem dX8_feeds_67 : decode cX8_feeds 67 = .ok (.iload_n 3, 1) := dk_29 (dk_at dksX8_feeds_2 19 rfl rfl)
theorem dX8_feeds_68 : decode cX8_feeds 68 = .ok (.iastore, 1) := dk_79 (dk_at dksX8_feeds_2 20 rfl rfl)
theorem dX8_feeds_69 : decode cX8_feeds 69 = .ok (.iconst 0, 1) := dk_3 (dk_at dksX8_feeds_2 21 rfl rfl)
theorem dX8_feeds_70 : decode cX8_feeds 70 = .ok (.istore 4, 2) := dk_54 4 (dk_at dksX8_feeds_2 22 rfl rfl)
theorem dX8_feeds_72 : decode cX8_feeds 72 = .ok (.iload 4, 2) := dk_21 4 (dk_at dksX8_feeds_3 0 rfl rfl)
theorem dX8_feeds_74 : decode cX8_feeds 74 = .ok (.iload_n 2, 1) := dk_28 (dk_at dksX8_feeds_3 2 rfl rfl)
theorem dX8_feeds_75 : decode cX8_feeds 75 = .ok (.if_icmp .ge 13, 3) := dk_162 0 13 (dk_at dksX8_feeds_3 3 rfl rfl)
theorem dX8_feeds_78 : decode cX8_feeds 78 = .ok (.aload_n 0, 1) := dk_42 (dk_at dksX8_feeds_3 6 rfl rfl)
theorem dX8_feeds_79 : decode cX8_feeds 79 = .ok (.invokevirtual 375, 3) := dk_182 1 119 (dk_at dksX8_feeds_3 7 rfl rfl)
theorem dX8_feeds_82 : decode cX8_feeds 82 = .ok (.iinc 4 1, 3) := dk_132 4 1 (dk_at dksX8_feeds_3 10 rfl rfl)
theorem dX8_feeds_85 : decode cX8_feeds 85 = .ok (.goto (-13), 3) := dk_167 255 243 (dk_at dksX8_feeds_3 13 rfl rfl)
theorem dX8_feeds_88 : decode cX8_feeds 88 = .ok (.aload_n 0, 1) := dk_42 (dk_at dksX8_feeds_3 16 rfl rfl)
theorem dX8_feeds_89 : decode cX8_feeds 89 = .ok (.iload_n 1, 1) := dk_27 (dk_at dksX8_feeds_3 17 rfl rfl)
theorem dX8_feeds_90 : decode cX8_feeds 90 = .ok (.invokevirtual 346, 3) := dk_182 1 90 (dk_at dksX8_feeds_3 18 rfl rfl)
theorem dX8_feeds_93 : decode cX8_feeds 93 = .ok (.ifCond .lt 5, 3) := dk_155 0 5 (dk_at dksX8_feeds_3 21 rfl rfl)
theorem dX8_feeds_96 : decode cX8_feeds 96 = .ok (.iload_n 3, 1) := dk_29 (dk_at dksX8_feeds_4 0 rfl rfl)
theorem dX8_feeds_97 : decode cX8_feeds 97 = .ok (.ireturn, 1) := dk_172 (dk_at dksX8_feeds_4 1 rfl rfl)
theorem dX8_feeds_98 : decode cX8_feeds 98 = .ok (.iinc 3 1, 3) := dk_132 3 1 (dk_at dksX8_feeds_4 2 rfl rfl)
theorem dX8_feeds_101 : decode cX8_feeds 101 = .ok (.goto (-52), 3) := dk_167 255 204 (dk_at dksX8_feeds_4 5 rfl rfl)
theorem dX8_feeds_104 : decode cX8_feeds 104 = .ok (.iconst (-1), 1) := dk_2 (dk_at dksX8_feeds_4 8 rfl rfl)
theorem dX8_feeds_105 : decode cX8_feeds 105 = .ok (.ireturn, 1) := dk_172 (dk_at dksX8_feeds_4 9 rfl rfl)
abbrev cX8_mates : ByteArray := prog_24_method_79_code
def yX8_mates : MethodName := ⟨RX8, "mates", "()I"⟩
def dkwX8_mates_0 : List UInt8 := [42, 3, 181, 0, 3, 42, 182, 1, 155, 172]
abbrev dktX8_mates_0 : List UInt8 := dkwX8_mates_0 ++ []
theorem dksX8_mates_0 : cX8_mates.data.toList.drop 0 = dktX8_mates_0 := by decide +kernel
theorem dX8_mates_0 : decode cX8_mates 0 = .ok (.aload_n 0, 1) := dk_42 (dk_at dksX8_mates_0 0 rfl rfl)
theorem dX8_mates_1 : decode cX8_mates 1 = .ok (.iconst 0, 1) := dk_3 (dk_at dksX8_mates_0 1 rfl rfl)
theorem dX8_mates_2 : decode cX8_mates 2 = .ok (.putfield 3, 3) := dk_181 0 3 (dk_at dksX8_mates_0 2 rfl rfl)
theorem dX8_mates_5 : decode cX8_mates 5 = .ok (.aload_n 0, 1) := dk_42 (dk_at dksX8_mates_0 5 rfl rfl)
theorem dX8_mates_6 : decode cX8_mates 6 = .ok (.invokevirtual 411, 3) := dk_182 1 155 (dk_at dksX8_mates_0 6 rfl rfl)
theorem dX8_mates_9 : decode cX8_mates 9 = .ok (.ireturn, 1) := dk_172 (dk_at dksX8_mates_0 9 rfl rfl)
abbrev cX8_findMates : ByteArray := prog_24_method_78_code
def yX8_findMates : MethodName := ⟨RX8, "findMates", "()I"⟩
def dkwX8_findMates_11 : List UInt8 := [29, 172]
abbrev dktX8_findMates_11 : List UInt8 := dkwX8_findMates_11 ++ []
def dkwX8_findMates_10 : List UInt8 := [21, 6, 2, 160, 0, 8, 21, 5, 167, 0, 12, 21, 5, 4, 21, 6, 120, 2, 130, 126, 60, 167, 255, 93]
abbrev dktX8_findMates_10 : List UInt8 := dkwX8_findMates_10 ++ dktX8_findMates_11
def dkwX8_findMates_9 : List UInt8 := [21, 6, 79, 21, 6, 2, 160, 0, 8, 3, 61, 167, 0, 12, 42, 180, 0, 95, 21, 6, 21, 4, 79]
abbrev dktX8_findMates_9 : List UInt8 := dkwX8_findMates_9 ++ dktX8_findMates_10
def dkwX8_findMates_8 : List UInt8 := [120, 27, 128, 46, 160, 0, 7, 21, 7, 54, 6, 132, 7, 255, 167, 255, 177, 42, 180, 0, 95, 21, 4]
abbrev dktX8_findMates_8 : List UInt8 := dkwX8_findMates_8 ++ dktX8_findMates_9
def dkwX8_findMates_7 : List UInt8 := [21, 8, 2, 159, 0, 32, 21, 8, 42, 21, 4, 21, 7, 182, 1, 143, 96, 42, 180, 0, 92, 28, 16, 7]
abbrev dktX8_findMates_7 : List UInt8 := dkwX8_findMates_7 ++ dktX8_findMates_8
def dkwX8_findMates_6 : List UInt8 := [167, 0, 59, 42, 180, 0, 92, 28, 16, 7, 120, 21, 5, 4, 21, 7, 120, 2, 130, 126, 128, 46, 54, 8]
abbrev dktX8_findMates_6 : List UInt8 := dkwX8_findMates_6 ++ dktX8_findMates_7
def dkwX8_findMates_5 : List UInt8 := [180, 0, 179, 4, 100, 54, 7, 21, 7, 21, 4, 164, 0, 78, 21, 5, 21, 7, 122, 4, 126, 154, 0, 6]
abbrev dktX8_findMates_5 : List UInt8 := dkwX8_findMates_5 ++ dktX8_findMates_6
def dkwX8_findMates_4 : List UInt8 := [153, 0, 165, 27, 184, 1, 140, 54, 4, 27, 4, 21, 4, 120, 2, 130, 126, 54, 5, 2, 54, 6, 42]
abbrev dktX8_findMates_4 : List UInt8 := dkwX8_findMates_4 ++ dktX8_findMates_5
def dkwX8_findMates_3 : List UInt8 := [54, 4, 21, 4, 16, 7, 162, 0, 17, 42, 180, 0, 95, 21, 4, 2, 79, 132, 4, 1, 167, 255, 238, 27]
abbrev dktX8_findMates_3 : List UInt8 := dkwX8_findMates_3 ++ dktX8_findMates_4
def dkwX8_findMates_2 : List UInt8 := [42, 182, 1, 149, 60, 27, 184, 1, 152, 61, 42, 180, 0, 92, 28, 16, 7, 120, 27, 128, 46, 62, 3]
abbrev dktX8_findMates_2 : List UInt8 := dkwX8_findMates_2 ++ dktX8_findMates_3
def dkwX8_findMates_1 : List UInt8 := [16, 7, 120, 27, 128, 42, 27, 28, 182, 1, 146, 79, 132, 2, 1, 167, 255, 231, 132, 1, 1, 167, 255, 213]
abbrev dktX8_findMates_1 : List UInt8 := dkwX8_findMates_1 ++ dktX8_findMates_2
def dkwX8_findMates_0 : List UInt8 := [3, 60, 27, 4, 42, 180, 0, 179, 120, 162, 0, 39, 3, 61, 28, 4, 163, 0, 26, 42, 180, 0, 92, 28]
abbrev dktX8_findMates_0 : List UInt8 := dkwX8_findMates_0 ++ dktX8_findMates_1
theorem dksX8_findMates_0 : cX8_findMates.data.toList.drop 0 = dktX8_findMates_0 := by decide +kernel
theorem dksX8_findMates_1 : cX8_findMates.data.toList.drop 24 = dktX8_findMates_1 := dk_seg dksX8_findMates_0 24 rfl rfl
theorem dksX8_findMates_2 : cX8_findMates.data.toList.drop 48 = dktX8_findMates_2 := dk_seg dksX8_findMates_1 24 rfl rfl
theorem dksX8_findMates_3 : cX8_findMates.data.toList.drop 71 = dktX8_findMates_3 := dk_seg dksX8_findMates_2 23 rfl rfl
theorem dksX8_findMates_4 : cX8_findMates.data.toList.drop 95 = dktX8_findMates_4 := dk_seg dksX8_findMates_3 24 rfl rfl
theorem dksX8_findMates_5 : cX8_findMates.data.toList.drop 118 = dktX8_findMates_5 := dk_seg dksX8_findMates_4 23 rfl rfl
theorem dksX8_findMates_6 : cX8_findMates.data.toList.drop 142 = dktX8_findMates_6 := dk_seg dksX8_findMates_5 24 rfl rfl
theorem dksX8_findMates_7 : cX8_findMates.data.toList.drop 166 = dktX8_findMates_7 := dk_seg dksX8_findMates_6 24 rfl rfl
theorem dksX8_findMates_8 : cX8_findMates.data.toList.drop 190 = dktX8_findMates_8 := dk_seg dksX8_findMates_7 24 rfl rfl
theorem dksX8_findMates_9 : cX8_findMates.data.toList.drop 213 = dktX8_findMates_9 := dk_seg dksX8_findMates_8 23 rfl rfl
theorem dksX8_findMates_10 : cX8_findMates.data.toList.drop 236 = dktX8_findMates_10 := dk_seg dksX8_findMates_9 23 rfl rfl
theorem dksX8_findMates_11 : cX8_findMates.data.toList.drop 260 = dktX8_findMates_11 := dk_seg dksX8_findMates_10 24 rfl rfl
theorem dX8_findMates_0 : decode cX8_findMates 0 = .ok (.iconst 0, 1) := dk_3 (dk_at dksX8_findMates_0 0 rfl rfl)
theorem dX8_findMates_1 : decode cX8_findMates 1 = .ok (.istore_n 1, 1) := dk_60 (dk_at dksX8_findMates_0 1 rfl rfl)
theorem dX8_findMates_2 : decode cX8_findMates 2 = .ok (.iload_n 1, 1) := dk_27 (dk_at dksX8_findMates_0 2 rfl rfl)
theorem dX8_findMates_3 : decode cX8_findMates 3 = .ok (.iconst 1, 1) := dk_4 (dk_at dksX8_findMates_0 3 rfl rfl)
theorem dX8_findMates_4 : decode cX8_findMates 4 = .ok (.aload_n 0, 1) := dk_42 (dk_at dksX8_findMates_0 4 rfl rfl)
theorem dX8_findMates_5 : decode cX8_findMates 5 = .ok (.getfield 179, 3) := dk_180 0 179 (dk_at dksX8_findMates_0 5 rfl rfl)
theorem dX8_findMates_8 : decode cX8_findMates 8 = .ok (.ishl, 1) := dk_120 (dk_at dksX8_findMates_0 8 rfl rfl)
theorem dX8_findMates_9 : decode cX8_findMates 9 = .ok (.if_icmp .ge 39, 3) := dk_162 0 39 (dk_at dksX8_findMates_0 9 rfl rfl)
theorem dX8_findMates_12 : decode cX8_findMates 12 = .ok (.iconst 0, 1) := dk_3 (dk_at dksX8_findMates_0 12 rfl rfl)
theorem dX8_findMates_13 : decode cX8_findMates 13 = .ok (.istore_n 2, 1) := dk_61 (dk_at dksX8_findMates_0 13 rfl rfl)
theorem dX8_findMates_14 : decode cX8_findMates 14 = .ok (.iload_n 2, 1) := dk_28 (dk_at dksX8_findMates_0 14 rfl rfl)
theorem dX8_findMates_15 : decode cX8_findMates 15 = .ok (.iconst 1, 1) := dk_4 (dk_at dksX8_findMates_0 15 rfl rfl)
theorem dX8_findMates_16 : decode cX8_findMates 16 = .ok (.if_icmp .gt 26, 3) := dk_163 0 26 (dk_at dksX8_findMates_0 16 rfl rfl)
theorem dX8_findMates_19 : decode cX8_findMates 19 = .ok (.aload_n 0, 1) := dk_42 (dk_at dksX8_findMates_0 19 rfl rfl)
theorem dX8_findMates_20 : decode cX8_findMates 20 = .ok (.getfield 92, 3) := dk_180 0 92 (dk_at dksX8_findMates_0 20 rfl rfl)
theorem dX8_findMates_23 : decode cX8_findMates 23 = .ok (.iload_n 2, 1) := dk_28 (dk_at dksX8_findMates_0 23 rfl rfl)
theorem dX8_findMates_24 : decode cX8_findMates 24 = .ok (.bipush 7, 2) := dk_16 7 (dk_at dksX8_findMates_1 0 rfl rfl)
theorem dX8_findMates_26 : decode cX8_findMates 26 = .ok (.ishl, 1) := dk_120 (dk_at dksX8_findMates_1 2 rfl rfl)
theorem dX8_findMates_27 : decode cX8_findMates 27 = .ok (.iload_n 1, 1) := dk_27 (dk_at dksX8_findMates_1 3 rfl rfl)
theorem dX8_findMates_28 : decode cX8_findMates 28 = .ok (.ior, 1) := dk_128 (dk_at dksX8_findMates_1 4 rfl rfl)
theorem dX8_findMates_29 : decode cX8_findMates 29 = .ok (.aload_n 0, 1) := dk_42 (dk_at dksX8_findMates_1 5 rfl rfl)
theorem dX8_findMates_30 : decode cX8_findMates 30 = .ok (.iload_n 1, 1) := dk_27 (dk_at dksX8_findMates_1 6 rfl rfl)
theorem dX8_findMates_31 : decode cX8_findMates 31 = .ok (.iload_n 2, 1) := dk_28 (dk_at dksX8_findMates_1 7 rfl rfl)
theorem dX8_findMates_32 : decode cX8_findMates 32 = .ok (.invokevirtual 402, 3) := dk_182 1 146 (dk_at dksX8_findMates_1 8 rfl rfl)
theorem dX8_findMates_35 : decode cX8_findMates 35 = .ok (.iastore, 1) := dk_79 (dk_at dksX8_findMates_1 11 rfl rfl)
theorem dX8_findMates_36 : decode cX8_findMates 36 = .ok (.iinc 2 1, 3) := dk_132 2 1 (dk_at dksX8_findMates_1 12 rfl rfl)
theorem dX8_findMates_39 : decode cX8_findMates 39 = .ok (.goto (-25), 3) := dk_167 255 231 (dk_at dksX8_findMates_1 15 rfl rfl)
theorem dX8_findMates_42 : decode cX8_findMates 42 = .ok (.iinc 1 1, 3) := dk_132 1 1 (dk_at dksX8_findMates_1 18 rfl rfl)
theorem dX8_findMates_45 : decode cX8_findMates 45 = .ok (.goto (-43), 3) := dk_167 255 213 (dk_at dksX8_findMates_1 21 rfl rfl)
theorem dX8_findMates_48 : decode cX8_findMates 48 = .ok (.aload_n 0, 1) := dk_42 (dk_at dksX8_findMates_2 0 rfl rfl)
theorem dX8_findMates_49 : decode cX8_findMates 49 = .ok (.invokevirtual 405, 3) := dk_182 1 149 (dk_at dksX8_findMates_2 1 rfl rfl)
theorem dX8_findMates_52 : decode cX8_findMates 52 = .ok (.istore_n 1, 1) := dk_60 (dk_at dksX8_findMates_2 4 rfl rfl)
theorem dX8_findMates_53 : decode cX8_findMates 53 = .ok (.iload_n 1, 1) := dk_27 (dk_at dksX8_findMates_2 5 rfl rfl)
theorem dX8_findMates_54 : decode cX8_findMates 54 = .ok (.invokestatic 408, 3) := dk_184 1 152 (dk_at dksX8_findMates_2 6 rfl rfl)
theorem dX8_findMates_57 : decode cX8_findMates 57 = .ok (.istore_n 2, 1) := dk_61 (dk_at dksX8_findMates_2 9 rfl rfl)
theorem dX8_findMates_58 : decode cX8_findMates 58 = .ok (.aload_n 0, 1) := dk_42 (dk_at dksX8_findMates_2 10 rfl rfl)
theorem dX8_findMates_59 : decode cX8_findMates 59 = .ok (.getfield 92, 3) := dk_180 0 92 (dk_at dksX8_findMates_2 11 rfl rfl)
theorem dX8_findMates_62 : decode cX8_findMates 62 = .ok (.iload_n 2, 1) := dk_28 (dk_at dksX8_findMates_2 14 rfl rfl)
theorem dX8_findMates_63 : decode cX8_findMates 63 = .ok (.bipush 7, 2) := dk_16 7 (dk_at dksX8_findMates_2 15 rfl rfl)
theorem dX8_findMates_65 : decode cX8_findMates 65 = .ok (.ishl, 1) := dk_120 (dk_at dksX8_findMates_2 17 rfl rfl)
theorem dX8_findMates_66 : decode cX8_findMates 66 = .ok (.iload_n 1, 1) := dk_27 (dk_at dksX8_findMates_2 18 rfl rfl)
theorem dX8_findMates_67 : decode cX8_findMates 67 = .ok (.ior, 1) := dk_128 (dk_at dksX8_findMates_2 19 rfl rfl)
theorem dX8_findMates_68 : decode cX8_findMates 68 = .ok (.iaload, 1) := dk_46 (dk_at dksX8_findMates_2 20 rfl rfl)
theorem dX8_findMates_69 : decode cX8_findMates 69 = .ok (.istore_n 3, 1) := dk_62 (dk_at dksX8_findMates_2 21 rfl rfl)
theorem dX8_findMates_70 : decode cX8_findMates 70 = .ok (.iconst 0, 1) := dk_3 (dk_at dksX8_findMates_2 22 rfl rfl)
theorem dX8_findMates_71 : decode cX8_findMates 71 = .ok (.istore 4, 2) := dk_54 4 (dk_at dksX8_findMates_3 0 rfl rfl)
theorem dX8_findMates_73 : decode cX8_findMates 73 = .ok (.iload 4, 2) := dk_21 4 (dk_at dksX8_findMates_3 2 rfl rfl)
theorem dX8_findMates_75 : decode cX8_findMates 75 = .ok (.bipush 7, 2) := dk_16 7 (dk_at dksX8_findMates_3 4 rfl rfl)
theorem dX8_findMates_77 : decode cX8_findMates 77 = .ok (.if_icmp .ge 17, 3) := dk_162 0 17 (dk_at dksX8_findMates_3 6 rfl rfl)
theorem dX8_findMates_80 : decode cX8_findMates 80 = .ok (.aload_n 0, 1) := dk_42 (dk_at dksX8_findMates_3 9 rfl rfl)
theorem dX8_findMates_81 : decode cX8_findMates 81 = .ok (.getfield 95, 3) := dk_180 0 95 (dk_at dksX8_findMates_3 10 rfl rfl)
theorem dX8_findMates_84 : decode cX8_findMates 84 = .ok (.iload 4, 2) := dk_21 4 (dk_at dksX8_findMates_3 13 rfl rfl)
theorem dX8_findMates_86 : decode cX8_findMates 86 = .ok (.iconst (-1), 1) := dk_2 (dk_at dksX8_findMates_3 15 rfl rfl)
theorem dX8_findMates_87 : decode cX8_findMates 87 = .ok (.iastore, 1) := dk_79 (dk_at dksX8_findMates_3 16 rfl rfl)
theorem dX8_findMates_88 : decode cX8_findMates 88 = .ok (.iinc 4 1, 3) := dk_132 4 1 (dk_at dksX8_findMates_3 17 rfl rfl)
theorem dX8_findMates_91 : decode cX8_findMates 91 = .ok (.goto (-18), 3) := dk_167 255 238 (dk_at dksX8_findMates_3 20 rfl rfl)
theorem dX8_findMates_94 : decode cX8_findMates 94 = .ok (.iload_n 1, 1) := dk_27 (dk_at dksX8_findMates_3 23 rfl rfl)
theorem dX8_findMates_95 : decode cX8_findMates 95 = .ok (.ifCond .eq 165, 3) := dk_153 0 165 (dk_at dksX8_findMates_4 0 rfl rfl)
theorem dX8_findMates_98 : decode cX8_findMates 98 = .ok (.iload_n 1, 1) := dk_27 (dk_at dksX8_findMates_4 3 rfl rfl)
theorem dX8_findMates_99 : decode cX8_findMates 99 = .ok (.invokestatic 396, 3) := dk_184 1 140 (dk_at dksX8_findMates_4 4 rfl rfl)
theorem dX8_findMates_102 : decode cX8_findMates 102 = .ok (.istore 4, 2) := dk_54 4 (dk_at dksX8_findMates_4 7 rfl rfl)
theorem dX8_findMates_104 : decode cX8_findMates 104 = .ok (.iload_n 1, 1) := dk_27 (dk_at dksX8_findMates_4 9 rfl rfl)
theorem dX8_findMates_105 : decode cX8_findMates 105 = .ok (.iconst 1, 1) := dk_4 (dk_at dksX8_findMates_4 10 rfl rfl)
theorem dX8_findMates_106 : decode cX8_findMates 106 = .ok (.iload 4, 2) := dk_21 4 (dk_at dksX8_findMates_4 11 rfl rfl)
theorem dX8_findMates_108 : decode cX8_findMates 108 = .ok (.ishl, 1) := dk_120 (dk_at dksX8_findMates_4 13 rfl rfl)
theorem dX8_findMates_109 : decode cX8_findMates 109 = .ok (.iconst (-1), 1) := dk_2 (dk_at dksX8_findMates_4 14 rfl rfl)
theorem dX8_findMates_110 : decode cX8_findMates 110 = .ok (.ixor, 1) := dk_130 (dk_at dksX8_findMates_4 15 rfl rfl)
theorem dX8_findMates_111 : decode cX8_findMates 111 = .ok (.iand, 1) := dk_126 (dk_at dksX8_findMates_4 16 rfl rfl)
theorem dX8_findMates_112 : decode cX8_findMates 112 = .ok (.istore 5, 2) := dk_54 5 (dk_at dksX8_findMates_4 17 rfl rfl)
theorem dX8_findMates_114 : decode cX8_findMates 114 = .ok (.iconst (-1), 1) := dk_2 (dk_at dksX8_findMates_4 19 rfl rfl)
theorem dX8_findMates_115 : decode cX8_findMates 115 = .ok (.istore 6, 2) := dk_54 6 (dk_at dksX8_findMates_4 20 rfl rfl)
theorem dX8_findMates_117 : decode cX8_findMates 117 = .ok (.aload_n 0, 1) := dk_42 (dk_at dksX8_findMates_4 22 rfl rfl)
theorem dX8_findMates_118 : decode cX8_findMates 118 = .ok (.getfield 179, 3) := dk_180 0 179 (dk_at dksX8_findMates_5 0 rfl rfl)
theorem dX8_findMates_121 : decode cX8_findMates 121 = .ok (.iconst 1, 1) := dk_4 (dk_at dksX8_findMates_5 3 rfl rfl)
theorem dX8_findMates_122 : decode cX8_findMates 122 = .ok (.isub, 1) := dk_100 (dk_at dksX8_findMates_5 4 rfl rfl)
theorem dX8_findMates_123 : decode cX8_findMates 123 = .ok (.istore 7, 2) := dk_54 7 (dk_at dksX8_findMates_5 5 rfl rfl)
theorem dX8_findMates_125 : decode cX8_findMates 125 = .ok (.iload 7, 2) := dk_21 7 (dk_at dksX8_findMates_5 7 rfl rfl)
theorem dX8_findMates_127 : decode cX8_findMates 127 = .ok (.iload 4, 2) := dk_21 4 (dk_at dksX8_findMates_5 9 rfl rfl)
theorem dX8_findMates_129 : decode cX8_findMates 129 = .ok (.if_icmp .le 78, 3) := dk_164 0 78 (dk_at dksX8_findMates_5 11 rfl rfl)
theorem dX8_findMates_132 : decode cX8_findMates 132 = .ok (.iload 5, 2) := dk_21 5 (dk_at dksX8_findMates_5 14 rfl rfl)
theorem dX8_findMates_134 : decode cX8_findMates 134 = .ok (.iload 7, 2) := dk_21 7 (dk_at dksX8_findMates_5 16 rfl rfl)
theorem dX8_findMates_136 : decode cX8_findMates 136 = .ok (.ishr, 1) := dk_122 (dk_at dksX8_findMates_5 18 rfl rfl)
theorem dX8_findMates_137 : decode cX8_findMates 137 = .ok (.iconst 1, 1) := dk_4 (dk_at dksX8_findMates_5 19 rfl rfl)
theorem dX8_findMates_138 : decode cX8_findMates 138 = .ok (.iand, 1) := dk_126 (dk_at dksX8_findMates_5 20 rfl rfl)
theorem dX8_findMates_139 : decode cX8_findMates 139 = .ok (.ifCond .ne 6, 3) := dk_154 0 6 (dk_at dksX8_findMates_5 21 rfl rfl)
theorem dX8_findMates_142 : decode cX8_findMates 142 = .ok (.goto 59, 3) := dk_167 0 59 (dk_at dksX8_findMates_6 0 rfl rfl)
theorem dX8_findMates_145 : decode cX8_findMates 145 = .ok (.aload_n 0, 1) := dk_42 (dk_at dksX8_findMates_6 3 rfl rfl)
theorem dX8_findMates_146 : decode cX8_findMates 146 = .ok (.getfield 92, 3) := dk_180 0 92 (dk_at dksX8_findMates_6 4 rfl rfl)
theorem dX8_findMates_149 : decode cX8_findMates 149 = .ok (.iload_n 2, 1) := dk_28 (dk_at dksX8_findMates_6 7 rfl rfl)
theorem dX8_findMates_150 : decode cX8_findMates 150 = .ok (.bipush 7, 2) := dk_16 7 (dk_at dksX8_findMates_6 8 rfl rfl)
theorem dX8_findMates_152 : decode cX8_findMates 152 = .ok (.ishl, 1) := dk_120 (dk_at dksX8_findMates_6 10 rfl rfl)
theorem dX8_findMates_153 : decode cX8_findMates 153 = .ok (.iload 5, 2) := dk_21 5 (dk_at dksX8_findMates_6 11 rfl rfl)
theorem dX8_findMates_155 : decode cX8_findMates 155 = .ok (.iconst 1, 1) := dk_4 (dk_at dksX8_findMates_6 13 rfl rfl)
theorem dX8_findMates_156 : decode cX8_findMates 156 = .ok (.iload 7, 2) := dk_21 7 (dk_at dksX8_findMates_6 14 rfl rfl)
theorem dX8_findMates_158 : decode cX8_findMates 158 = .ok (.ishl, 1) := dk_120 (dk_at dksX8_findMates_6 16 rfl rfl)
theorem dX8_findMates_159 : decode cX8_findMates 159 = .ok (.iconst (-1), 1) := dk_2 (dk_at dksX8_findMates_6 17 rfl rfl)
theorem dX8_findMates_160 : decode cX8_findMates 160 = .ok (.ixor, 1) := dk_130 (dk_at dksX8_findMates_6 18 rfl rfl)
theorem dX8_findMates_161 : decode cX8_findMates 161 = .ok (.iand, 1) := dk_126 (dk_at dksX8_findMates_6 19 rfl rfl)
theorem dX8_findMates_162 : decode cX8_findMates 162 = .ok (.ior, 1) := dk_128 (dk_at dksX8_findMates_6 20 rfl rfl)
theorem dX8_findMates_163 : decode cX8_findMates 163 = .ok (.iaload, 1) := dk_46 (dk_at dksX8_findMates_6 21 rfl rfl)
theorem dX8_findMates_164 : decode cX8_findMates 164 = .ok (.istore 8, 2) := dk_54 8 (dk_at dksX8_findMates_6 22 rfl rfl)
theorem dX8_findMates_166 : decode cX8_findMates 166 = .ok (.iload 8, 2) := dk_21 8 (dk_at dksX8_findMates_7 0 rfl rfl)
theorem dX8_findMates_168 : decode cX8_findMates 168 = .ok (.iconst (-1), 1) := dk_2 (dk_at dksX8_findMates_7 2 rfl rfl)
theorem dX8_findMates_169 : decode cX8_findMates 169 = .ok (.if_icmp .eq 32, 3) := dk_159 0 32 (dk_at dksX8_findMates_7 3 rfl rfl)
theorem dX8_findMates_172 : decode cX8_findMates 172 = .ok (.iload 8, 2) := dk_21 8 (dk_at dksX8_findMates_7 6 rfl rfl)
theorem dX8_findMates_174 : decode cX8_findMates 174 = .ok (.aload_n 0, 1) := dk_42 (dk_at dksX8_findMates_7 8 rfl rfl)
theorem dX8_findMates_175 : decode cX8_findMates 175 = .ok (.iload 4, 2) := dk_21 4 (dk_at dksX8_findMates_7 9 rfl rfl)
theorem dX8_findMates_177 : decode cX8_findMates 177 = .ok (.iload 7, 2) := dk_21 7 (dk_at dksX8_findMates_7 11 rfl rfl)
theorem dX8_findMates_179 : decode cX8_findMates 179 = .ok (.invokevirtual 399, 3) := dk_182 1 143 (dk_at dksX8_findMates_7 13 rfl rfl)
theorem dX8_findMates_182 : decode cX8_findMates 182 = .ok (.iadd, 1) := dk_96 (dk_at dksX8_findMates_7 16 rfl rfl)
theorem dX8_findMates_183 : decode cX8_findMates 183 = .ok (.aload_n 0, 1) := dk_42 (dk_at dksX8_findMates_7 17 rfl rfl)
theorem dX8_findMates_184 : decode cX8_findMates 184 = .ok (.getfield 92, 3) := dk_180 0 92 (dk_at dksX8_findMates_7 18 rfl rfl)
theorem dX8_findMates_187 : decode cX8_findMates 187 = .ok (.iload_n 2, 1) := dk_28 (dk_at dksX8_findMates_7 21 rfl rfl)
theorem dX8_findMates_188 : decode cX8_findMates 188 = .ok (.bipush 7, 2) := dk_16 7 (dk_at dksX8_findMates_7 22 rfl rfl)
theorem dX8_findMates_190 : decode cX8_findMates 190 = .ok (.ishl, 1) := dk_120 (dk_at dksX8_findMates_8 0 rfl rfl)
theorem dX8_findMates_191 : decode cX8_findMates 191 = .ok (.iload_n 1, 1) := dk_27 (dk_at dksX8_findMates_8 1 rfl rfl)
theorem dX8_findMates_192 : decode cX8_findMates 192 = .ok (.ior, 1) := dk_128 (dk_at dksX8_findMates_8 2 rfl rfl)
theorem dX8_findMates_193 : decode cX8_findMates 193 = .ok (.iaload, 1) := dk_46 (dk_at dksX8_findMates_8 3 rfl rfl)
theorem dX8_findMates_194 : decode cX8_findMates 194 = .ok (.if_icmp .ne 7, 3) := dk_160 0 7 (dk_at dksX8_findMates_8 4 rfl rfl)
theorem dX8_findMates_197 : decode cX8_findMates 197 = .ok (.iload 7, 2) := dk_21 7 (dk_at dksX8_findMates_8 7 rfl rfl)
theorem dX8_findMates_199 : decode cX8_findMates 199 = .ok (.istore 6, 2) := dk_54 6 (dk_at dksX8_findMates_8 9 rfl rfl)
theorem dX8_findMates_201 : decode cX8_findMates 201 = .ok (.iinc 7 (-1), 3) := dk_132 7 255 (dk_at dksX8_findMates_8 11 rfl rfl)
theorem dX8_findMates_204 : decode cX8_findMates 204 = .ok (.goto (-79), 3) := dk_167 255 177 (dk_at dksX8_findMates_8 14 rfl rfl)
theorem dX8_findMates_207 : decode cX8_findMates 207 = .ok (.aload_n 0, 1) := dk_42 (dk_at dksX8_findMates_8 17 rfl rfl)
theorem dX8_findMates_208 : decode cX8_findMates 208 = .ok (.getfield 95, 3) := dk_180 0 95 (dk_at dksX8_findMates_8 18 rfl rfl)
theorem dX8_findMates_211 : decode cX8_findMates 211 = .ok (.iload 4, 2) := dk_21 4 (dk_at dksX8_findMates_8 21 rfl rfl)
theorem dX8_findMates_213 : decode cX8_findMates 213 = .ok (.iload 6, 2) := dk_21 6 (dk_at dksX8_findMates_9 0 rfl rfl)
theorem dX8_findMates_215 : decode cX8_findMates 215 = .ok (.iastore, 1) := dk_79 (dk_at dksX8_findMates_9 2 rfl rfl)
theorem dX8_findMates_216 : decode cX8_findMates 216 = .ok (.iload 6, 2) := dk_21 6 (dk_at dksX8_findMates_9 3 rfl rfl)
theorem dX8_findMates_218 : decode cX8_findMates 218 = .ok (.iconst (-1), 1) := dk_2 (dk_at dksX8_findMates_9 5 rfl rfl)
theorem dX8_findMates_219 : decode cX8_findMates 219 = .ok (.if_icmp .ne 8, 3) := dk_160 0 8 (dk_at dksX8_findMates_9 6 rfl rfl)
theorem dX8_findMates_222 : decode cX8_findMates 222 = .ok (.iconst 0, 1) := dk_3 (dk_at dksX8_findMates_9 9 rfl rfl)
theorem dX8_findMates_223 : decode cX8_findMates 223 = .ok (.istore_n 2, 1) := dk_61 (dk_at dksX8_findMates_9 10 rfl rfl)
theorem dX8_findMates_224 : decode cX8_findMates 224 = .ok (.goto 12, 3) := dk_167 0 12 (dk_at dksX8_findMates_9 11 rfl rfl)
theorem dX8_findMates_227 : decode cX8_findMates 227 = .ok (.aload_n 0, 1) := dk_42 (dk_at dksX8_findMates_9 14 rfl rfl)
theorem dX8_findMates_228 : decode cX8_findMates 228 = .ok (.getfield 95, 3) := dk_180 0 95 (dk_at dksX8_findMates_9 15 rfl rfl)
theorem dX8_findMates_231 : decode cX8_findMates 231 = .ok (.iload 6, 2) := dk_21 6 (dk_at dksX8_findMates_9 18 rfl rfl)
theorem dX8_findMates_233 : decode cX8_findMates 233 = .ok (.iload 4, 2) := dk_21 4 (dk_at dksX8_findMates_9 20 rfl rfl)
theorem dX8_findMates_235 : decode cX8_findMates 235 = .ok (.iastore, 1) := dk_79 (dk_at dksX8_findMates_9 22 rfl rfl)
theorem dX8_findMates_236 : decode cX8_findMates 236 = .ok (.iload 6, 2) := dk_21 6 (dk_at dksX8_findMates_10 0 rfl rfl)
theorem dX8_findMates_238 : decode cX8_findMates 238 = .ok (.iconst (-1), 1) := dk_2 (dk_at dksX8_findMates_10 2 rfl rfl)
theorem dX8_findMates_239 : decode cX8_findMates 239 = .ok (.if_icmp .ne 8, 3) := dk_160 0 8 (dk_at dksX8_findMates_10 3 rfl rfl)
theorem dX8_findMates_242 : decode cX8_findMates 242 = .ok (.iload 5, 2) := dk_21 5 (dk_at dksX8_findMates_10 6 rfl rfl)
theorem dX8_findMates_244 : decode cX8_findMates 244 = .ok (.goto 12, 3) := dk_167 0 12 (dk_at dksX8_findMates_10 8 rfl rfl)
theorem dX8_findMates_247 : decode cX8_findMates 247 = .ok (.iload 5, 2) := dk_21 5 (dk_at dksX8_findMates_10 11 rfl rfl)
theorem dX8_findMates_249 : decode cX8_findMates 249 = .ok (.iconst 1, 1) := dk_4 (dk_at dksX8_findMates_10 13 rfl rfl)
theorem dX8_findMates_250 : decode cX8_findMates 250 = .ok (.iload 6, 2) := dk_21 6 (dk_at dksX8_findMates_10 14 rfl rfl)
theorem dX8_findMates_252 : decode cX8_findMates 252 = .ok (.ishl, 1) := dk_120 (dk_at dksX8_findMates_10 16 rfl rfl)
theorem dX8_findMates_253 : decode cX8_findMates 253 = .ok (.iconst (-1), 1) := dk_2 (dk_at dksX8_findMates_10 17 rfl rfl)
theorem dX8_findMates_254 : decode cX8_findMates 254 = .ok (.ixor, 1) := dk_130 (dk_at dksX8_findMates_10 18 rfl rfl)
theorem dX8_findMates_255 : decode cX8_findMates 255 = .ok (.iand, 1) := dk_126 (dk_at dksX8_findMates_10 19 rfl rfl)
theorem dX8_findMates_256 : decode cX8_findMates 256 = .ok (.istore_n 1, 1) := dk_60 (dk_at dksX8_findMates_10 20 rfl rfl)
theorem dX8_findMates_257 : decode cX8_findMates 257 = .ok (.goto (-163), 3) := dk_167 255 93 (dk_at dksX8_findMates_10 21 rfl rfl)
theorem dX8_findMates_260 : decode cX8_findMates 260 = .ok (.iload_n 3, 1) := dk_29 (dk_at dksX8_findMates_11 0 rfl rfl)
theorem dX8_findMates_261 : decode cX8_findMates 261 = .ok (.ireturn, 1) := dk_172 (dk_at dksX8_findMates_11 1 rfl rfl)
abbrev cX8_layMates : ByteArray := prog_24_method_75_code
def yX8_layMates : MethodName := ⟨RX8, "layMates", "(II)I"⟩
def dkwX8_layMates_6 : List UInt8 := [167, 255, 167, 21, 5, 172]
abbrev dktX8_layMates_6 : List UInt8 := dkwX8_layMates_6 ++ []
def dkwX8_layMates_5 : List UInt8 := [159, 0, 10, 21, 8, 21, 5, 162, 0, 8, 21, 8, 167, 0, 5, 21, 5, 54, 5, 132, 6, 1]
abbrev dktX8_layMates_5 : List UInt8 := dkwX8_layMates_5 ++ dktX8_layMates_6
def dkwX8_layMates_4 : List UInt8 := [21, 7, 2, 160, 0, 6, 167, 0, 37, 21, 7, 42, 29, 21, 6, 182, 1, 143, 96, 54, 8, 21, 5, 2]
abbrev dktX8_layMates_4 : List UInt8 := dkwX8_layMates_4 ++ dktX8_layMates_5
def dkwX8_layMates_3 : List UInt8 := [167, 0, 67, 42, 180, 0, 92, 28, 16, 7, 120, 21, 4, 4, 21, 6, 120, 2, 130, 126, 128, 46, 54, 7]
abbrev dktX8_layMates_3 : List UInt8 := dkwX8_layMates_3 ++ dktX8_layMates_4
def dkwX8_layMates_2 : List UInt8 := [96, 54, 6, 21, 6, 42, 180, 0, 179, 162, 0, 86, 21, 4, 21, 6, 122, 4, 126, 154, 0, 6]
abbrev dktX8_layMates_2 : List UInt8 := dkwX8_layMates_2 ++ dktX8_layMates_3
def dkwX8_layMates_1 : List UInt8 := [130, 126, 54, 4, 28, 4, 160, 0, 13, 42, 180, 0, 92, 21, 4, 46, 167, 0, 4, 2, 54, 5, 29, 4]
abbrev dktX8_layMates_1 : List UInt8 := dkwX8_layMates_1 ++ dktX8_layMates_2
def dkwX8_layMates_0 : List UInt8 := [27, 154, 0, 13, 28, 154, 0, 7, 3, 167, 0, 4, 2, 172, 27, 184, 1, 140, 62, 27, 4, 29, 120, 2]
abbrev dktX8_layMates_0 : List UInt8 := dkwX8_layMates_0 ++ dktX8_layMates_1
theorem dksX8_layMates_0 : cX8_layMates.data.toList.drop 0 = dktX8_layMates_0 := by decide +kernel
theorem dksX8_layMates_1 : cX8_layMates.data.toList.drop 24 = dktX8_layMates_1 := dk_seg dksX8_layMates_0 24 rfl rfl
theorem dksX8_layMates_2 : cX8_layMates.data.toList.drop 48 = dktX8_layMates_2 := dk_seg dksX8_layMates_1 24 rfl rfl
theorem dksX8_layMates_3 : cX8_layMates.data.toList.drop 70 = dktX8_layMates_3 := dk_seg dksX8_layMates_2 22 rfl rfl
theorem dksX8_layMates_4 : cX8_layMates.data.toList.drop 94 = dktX8_layMates_4 := dk_seg dksX8_layMates_3 24 rfl rfl
theorem dksX8_layMates_5 : cX8_layMates.data.toList.drop 118 = dktX8_layMates_5 := dk_seg dksX8_layMates_4 24 rfl rfl
theorem dksX8_layMates_6 : cX8_layMates.data.toList.drop 140 = dktX8_layMates_6 := dk_seg dksX8_layMates_5 22 rfl rfl
theorem dX8_layMates_0 : decode cX8_layMates 0 = .ok (.iload_n 1, 1) := dk_27 (dk_at dksX8_layMates_0 0 rfl rfl)
theorem dX8_layMates_1 : decode cX8_layMates 1 = .ok (.ifCond .ne 13, 3) := dk_154 0 13 (dk_at dksX8_layMates_0 1 rfl rfl)
theorem dX8_layMates_4 : decode cX8_layMates 4 = .ok (.iload_n 2, 1) := dk_28 (dk_at dksX8_layMates_0 4 rfl rfl)
theorem dX8_layMates_5 : decode cX8_layMates 5 = .ok (.ifCond .ne 7, 3) := dk_154 0 7 (dk_at dksX8_layMates_0 5 rfl rfl)
theorem dX8_layMates_8 : decode cX8_layMates 8 = .ok (.iconst 0, 1) := dk_3 (dk_at dksX8_layMates_0 8 rfl rfl)
theorem dX8_layMates_9 : decode cX8_layMates 9 = .ok (.goto 4, 3) := dk_167 0 4 (dk_at dksX8_layMates_0 9 rfl rfl)
theorem dX8_layMates_12 : decode cX8_layMates 12 = .ok (.iconst (-1), 1) := dk_2 (dk_at dksX8_layMates_0 12 rfl rfl)
theorem dX8_layMates_13 : decode cX8_layMates 13 = .ok (.ireturn, 1) := dk_172 (dk_at dksX8_layMates_0 13 rfl rfl)
theorem dX8_layMates_14 : decode cX8_layMates 14 = .ok (.iload_n 1, 1) := dk_27 (dk_at dksX8_layMates_0 14 rfl rfl)
theorem dX8_layMates_15 : decode cX8_layMates 15 = .ok (.invokestatic 396, 3) := dk_184 1 140 (dk_at dksX8_layMates_0 15 rfl rfl)
theorem dX8_layMates_18 : decode cX8_layMates 18 = .ok (.istore_n 3, 1) := dk_62 (dk_at dksX8_layMates_0 18 rfl rfl)
theorem dX8_layMates_19 : decode cX8_layMates 19 = .ok (.iload_n 1, 1) := dk_27 (dk_at dksX8_layMates_0 19 rfl rfl)
theorem dX8_layMates_20 : decode cX8_layMates 20 = .ok (.iconst 1, 1) := dk_4 (dk_at dksX8_layMates_0 20 rfl rfl)
theorem dX8_layMates_21 : decode cX8_layMates 21 = .ok (.iload_n 3, 1) := dk_29 (dk_at dksX8_layMates_0 21 rfl rfl)
theorem dX8_layMates_22 : decode cX8_layMates 22 = .ok (.ishl, 1) := dk_120 (dk_at dksX8_layMates_0 22 rfl rfl)
theorem dX8_layMates_23 : decode cX8_layMates 23 = .ok (.iconst (-1), 1) := dk_2 (dk_at dksX8_layMates_0 23 rfl rfl)
theorem dX8_layMates_24 : decode cX8_layMates 24 = .ok (.ixor, 1) := dk_130 (dk_at dksX8_layMates_1 0 rfl rfl)
theorem dX8_layMates_25 : decode cX8_layMates 25 = .ok (.iand, 1) := dk_126 (dk_at dksX8_layMates_1 1 rfl rfl)
theorem dX8_layMates_26 : decode cX8_layMates 26 = .ok (.istore 4, 2) := dk_54 4 (dk_at dksX8_layMates_1 2 rfl rfl)
theorem dX8_layMates_28 : decode cX8_layMates 28 = .ok (.iload_n 2, 1) := dk_28 (dk_at dksX8_layMates_1 4 rfl rfl)
theorem dX8_layMates_29 : decode cX8_layMates 29 = .ok (.iconst 1, 1) := dk_4 (dk_at dksX8_layMates_1 5 rfl rfl)
theorem dX8_layMates_30 : decode cX8_layMates 30 = .ok (.if_icmp .ne 13, 3) := dk_160 0 13 (dk_at dksX8_layMates_1 6 rfl rfl)
theorem dX8_layMates_33 : decode cX8_layMates 33 = .ok (.aload_n 0, 1) := dk_42 (dk_at dksX8_layMates_1 9 rfl rfl)
theorem dX8_layMates_34 : decode cX8_layMates 34 = .ok (.getfield 92, 3) := dk_180 0 92 (dk_at dksX8_layMates_1 10 rfl rfl)
theorem dX8_layMates_37 : decode cX8_layMates 37 = .ok (.iload 4, 2) := dk_21 4 (dk_at dksX8_layMates_1 13 rfl rfl)
theorem dX8_layMates_39 : decode cX8_layMates 39 = .ok (.iaload, 1) := dk_46 (dk_at dksX8_layMates_1 15 rfl rfl)
theorem dX8_layMates_40 : decode cX8_layMates 40 = .ok (.goto 4, 3) := dk_167 0 4 (dk_at dksX8_layMates_1 16 rfl rfl)
theorem dX8_layMates_43 : decode cX8_layMates 43 = .ok (.iconst (-1), 1) := dk_2 (dk_at dksX8_layMates_1 19 rfl rfl)
theorem dX8_layMates_44 : decode cX8_layMates 44 = .ok (.istore 5, 2) := dk_54 5 (dk_at dksX8_layMates_1 20 rfl rfl)
theorem dX8_layMates_46 : decode cX8_layMates 46 = .ok (.iload_n 3, 1) := dk_29 (dk_at dksX8_layMates_1 22 rfl rfl)
theorem dX8_layMates_47 : decode cX8_layMates 47 = .ok (.iconst 1, 1) := dk_4 (dk_at dksX8_layMates_1 23 rfl rfl)
theorem dX8_layMates_48 : decode cX8_layMates 48 = .ok (.iadd, 1) := dk_96 (dk_at dksX8_layMates_2 0 rfl rfl)
theorem dX8_layMates_49 : decode cX8_layMates 49 = .ok (.istore 6, 2) := dk_54 6 (dk_at dksX8_layMates_2 1 rfl rfl)
theorem dX8_layMates_51 : decode cX8_layMates 51 = .ok (.iload 6, 2) := dk_21 6 (dk_at dksX8_layMates_2 3 rfl rfl)
theorem dX8_layMates_53 : decode cX8_layMates 53 = .ok (.aload_n 0, 1) := dk_42 (dk_at dksX8_layMates_2 5 rfl rfl)
theorem dX8_layMates_54 : decode cX8_layMates 54 = .ok (.getfield 179, 3) := dk_180 0 179 (dk_at dksX8_layMates_2 6 rfl rfl)
theorem dX8_layMates_57 : decode cX8_layMates 57 = .ok (.if_icmp .ge 86, 3) := dk_162 0 86 (dk_at dksX8_layMates_2 9 rfl rfl)
theorem dX8_layMates_60 : decode cX8_layMates 60 = .ok (.iload 4, 2) := dk_21 4 (dk_at dksX8_layMates_2 12 rfl rfl)
theorem dX8_layMates_62 : decode cX8_layMates 62 = .ok (.iload 6, 2) := dk_21 6 (dk_at dksX8_layMates_2 14 rfl rfl)
theorem dX8_layMates_64 : decode cX8_layMates 64 = .ok (.ishr, 1) := dk_122 (dk_at dksX8_layMates_2 16 rfl rfl)
theorem dX8_layMates_65 : decode cX8_layMates 65 = .ok (.iconst 1, 1) := dk_4 (dk_at dksX8_layMates_2 17 rfl rfl)
theorem dX8_layMates_66 : decode cX8_layMates 66 = .ok (.iand, 1) := dk_126 (dk_at dksX8_layMates_2 18 rfl rfl)
theorem dX8_layMates_67 : decode cX8_layMates 67 = .ok (.ifCond .ne 6, 3) := dk_154 0 6 (dk_at dksX8_layMates_2 19 rfl rfl)
theorem dX8_layMates_70 : decode cX8_layMates 70 = .ok (.goto 67, 3) := dk_167 0 67 (dk_at dksX8_layMates_3 0 rfl rfl)
theorem dX8_layMates_73 : decode cX8_layMates 73 = .ok (.aload_n 0, 1) := dk_42 (dk_at dksX8_layMates_3 3 rfl rfl)
theorem dX8_layMates_74 : decode cX8_layMates 74 = .ok (.getfield 92, 3) := dk_180 0 92 (dk_at dksX8_layMates_3 4 rfl rfl)
theorem dX8_layMates_77 : decode cX8_layMates 77 = .ok (.iload_n 2, 1) := dk_28 (dk_at dksX8_layMates_3 7 rfl rfl)
theorem dX8_layMates_78 : decode cX8_layMates 78 = .ok (.bipush 7, 2) := dk_16 7 (dk_at dksX8_layMates_3 8 rfl rfl)
theorem dX8_layMates_80 : decode cX8_layMates 80 = .ok (.ishl, 1) := dk_120 (dk_at dksX8_layMates_3 10 rfl rfl)
theorem dX8_layMates_81 : decode cX8_layMates 81 = .ok (.iload 4, 2) := dk_21 4 (dk_at dksX8_layMates_3 11 rfl rfl)
theorem dX8_layMates_83 : decode cX8_layMates 83 = .ok (.iconst 1, 1) := dk_4 (dk_at dksX8_layMates_3 13 rfl rfl)
theorem dX8_layMates_84 : decode cX8_layMates 84 = .ok (.iload 6, 2) := dk_21 6 (dk_at dksX8_layMates_3 14 rfl rfl)
theorem dX8_layMates_86 : decode cX8_layMates 86 = .ok (.ishl, 1) := dk_120 (dk_at dksX8_layMates_3 16 rfl rfl)
theorem dX8_layMates_87 : decode cX8_layMates 87 = .ok (.iconst (-1), 1) := dk_2 (dk_at dksX8_layMates_3 17 rfl rfl)
theorem dX8_layMates_88 : decode cX8_layMates 88 = .ok (.ixor, 1) := dk_130 (dk_at dksX8_layMates_3 18 rfl rfl)
theorem dX8_layMates_89 : decode cX8_layMates 89 = .ok (.iand, 1) := dk_126 (dk_at dksX8_layMates_3 19 rfl rfl)
theorem dX8_layMates_90 : decode cX8_layMates 90 = .ok (.ior, 1) := dk_128 (dk_at dksX8_layMates_3 20 rfl rfl)
theorem dX8_layMates_91 : decode cX8_layMates 91 = .ok (.iaload, 1) := dk_46 (dk_at dksX8_layMates_3 21 rfl rfl)
theorem dX8_layMates_92 : decode cX8_layMates 92 = .ok (.istore 7, 2) := dk_54 7 (dk_at dksX8_layMates_3 22 rfl rfl)
theorem dX8_layMates_94 : decode cX8_layMates 94 = .ok (.iload 7, 2) := dk_21 7 (dk_at dksX8_layMates_4 0 rfl rfl)
theorem dX8_layMates_96 : decode cX8_layMates 96 = .ok (.iconst (-1), 1) := dk_2 (dk_at dksX8_layMates_4 2 rfl rfl)
theorem dX8_layMates_97 : decode cX8_layMates 97 = .ok (.if_icmp .ne 6, 3) := dk_160 0 6 (dk_at dksX8_layMates_4 3 rfl rfl)
theorem dX8_layMates_100 : decode cX8_layMates 100 = .ok (.goto 37, 3) := dk_167 0 37 (dk_at dksX8_layMates_4 6 rfl rfl)
theorem dX8_layMates_103 : decode cX8_layMates 103 = .ok (.iload 7, 2) := dk_21 7 (dk_at dksX8_layMates_4 9 rfl rfl)
theorem dX8_layMates_105 : decode cX8_layMates 105 = .ok (.aload_n 0, 1) := dk_42 (dk_at dksX8_layMates_4 11 rfl rfl)
theorem dX8_layMates_106 : decode cX8_layMates 106 = .ok (.iload_n 3, 1) := dk_29 (dk_at dksX8_layMates_4 12 rfl rfl)
theorem dX8_layMates_107 : decode cX8_layMates 107 = .ok (.iload 6, 2) := dk_21 6 (dk_at dksX8_layMates_4 13 rfl rfl)
theorem dX8_layMates_109 : decode cX8_layMates 109 = .ok (.invokevirtual 399, 3) := dk_182 1 143 (dk_at dksX8_layMates_4 15 rfl rfl)
theorem dX8_layMates_112 : decode cX8_layMates 112 = .ok (.iadd, 1) := dk_96 (dk_at dksX8_layMates_4 18 rfl rfl)
theorem dX8_layMates_113 : decode cX8_layMates 113 = .ok (.istore 8, 2) := dk_54 8 (dk_at dksX8_layMates_4 19 rfl rfl)
theorem dX8_layMates_115 : decode cX8_layMates 115 = .ok (.iload 5, 2) := dk_21 5 (dk_at dksX8_layMates_4 21 rfl rfl)
theorem dX8_layMates_117 : decode cX8_layMates 117 = .ok (.iconst (-1), 1) := dk_2 (dk_at dksX8_layMates_4 23 rfl rfl)
theorem dX8_layMates_118 : decode cX8_layMates 118 = .ok (.if_icmp .eq 10, 3) := dk_159 0 10 (dk_at dksX8_layMates_5 0 rfl rfl)
theorem dX8_layMates_121 : decode cX8_layMates 121 = .ok (.iload 8, 2) := dk_21 8 (dk_at dksX8_layMates_5 3 rfl rfl)
theorem dX8_layMates_123 : decode cX8_layMates 123 = .ok (.iload 5, 2) := dk_21 5 (dk_at dksX8_layMates_5 5 rfl rfl)
theorem dX8_layMates_125 : decode cX8_layMates 125 = .ok (.if_icmp .ge 8, 3) := dk_162 0 8 (dk_at dksX8_layMates_5 7 rfl rfl)
theorem dX8_layMates_128 : decode cX8_layMates 128 = .ok (.iload 8, 2) := dk_21 8 (dk_at dksX8_layMates_5 10 rfl rfl)
theorem dX8_layMates_130 : decode cX8_layMates 130 = .ok (.goto 5, 3) := dk_167 0 5 (dk_at dksX8_layMates_5 12 rfl rfl)
theorem dX8_layMates_133 : decode cX8_layMates 133 = .ok (.iload 5, 2) := dk_21 5 (dk_at dksX8_layMates_5 15 rfl rfl)
theorem dX8_layMates_135 : decode cX8_layMates 135 = .ok (.istore 5, 2) := dk_54 5 (dk_at dksX8_layMates_5 17 rfl rfl)
theorem dX8_layMates_137 : decode cX8_layMates 137 = .ok (.iinc 6 1, 3) := dk_132 6 1 (dk_at dksX8_layMates_5 19 rfl rfl)
theorem dX8_layMates_140 : decode cX8_layMates 140 = .ok (.goto (-89), 3) := dk_167 255 167 (dk_at dksX8_layMates_6 0 rfl rfl)
theorem dX8_layMates_143 : decode cX8_layMates 143 = .ok (.iload 5, 2) := dk_21 5 (dk_at dksX8_layMates_6 3 rfl rfl)
theorem dX8_layMates_145 : decode cX8_layMates 145 = .ok (.ireturn, 1) := dk_172 (dk_at dksX8_layMates_6 5 rfl rfl)
abbrev cX8_lowest : ByteArray := prog_24_method_74_code
def yX8_lowest : MethodName := ⟨RX8, "lowest", "(I)I"⟩
def dkwX8_lowest_0 : List UInt8 := [3, 60, 26, 27, 122, 4, 126, 154, 0, 9, 132, 1, 1, 167, 255, 245, 27, 172]
abbrev dktX8_lowest_0 : List UInt8 := dkwX8_lowest_0 ++ []
theorem dksX8_lowest_0 : cX8_lowest.data.toList.drop 0 = dktX8_lowest_0 := by decide +kernel
theorem dX8_lowest_0 : decode cX8_lowest 0 = .ok (.iconst 0, 1) := dk_3 (dk_at dksX8_lowest_0 0 rfl rfl)
theorem dX8_lowest_1 : decode cX8_lowest 1 = .ok (.istore_n 1, 1) := dk_60 (dk_at dksX8_lowest_0 1 rfl rfl)
theorem dX8_lowest_2 : decode cX8_lowest 2 = .ok (.iload_n 0, 1) := dk_26 (dk_at dksX8_lowest_0 2 rfl rfl)
theorem dX8_lowest_3 : decode cX8_lowest 3 = .ok (.iload_n 1, 1) := dk_27 (dk_at dksX8_lowest_0 3 rfl rfl)
theorem dX8_lowest_4 : decode cX8_lowest 4 = .ok (.ishr, 1) := dk_122 (dk_at dksX8_lowest_0 4 rfl rfl)
theorem dX8_lowest_5 : decode cX8_lowest 5 = .ok (.iconst 1, 1) := dk_4 (dk_at dksX8_lowest_0 5 rfl rfl)
theorem dX8_lowest_6 : decode cX8_lowest 6 = .ok (.iand, 1) := dk_126 (dk_at dksX8_lowest_0 6 rfl rfl)
theorem dX8_lowest_7 : decode cX8_lowest 7 = .ok (.ifCond .ne 9, 3) := dk_154 0 9 (dk_at dksX8_lowest_0 7 rfl rfl)
theorem dX8_lowest_10 : decode cX8_lowest 10 = .ok (.iinc 1 1, 3) := dk_132 1 1 (dk_at dksX8_lowest_0 10 rfl rfl)
theorem dX8_lowest_13 : decode cX8_lowest 13 = .ok (.goto (-11), 3) := dk_167 255 245 (dk_at dksX8_lowest_0 13 rfl rfl)
theorem dX8_lowest_16 : decode cX8_lowest 16 = .ok (.iload_n 1, 1) := dk_27 (dk_at dksX8_lowest_0 16 rfl rfl)
theorem dX8_lowest_17 : decode cX8_lowest 17 = .ok (.ireturn, 1) := dk_172 (dk_at dksX8_lowest_0 17 rfl rfl)
abbrev cX8_far : ByteArray := prog_24_method_73_code
def yX8_far : MethodName := ⟨RX8, "far", "(II)I"⟩
def dkwX8_far_2 : List UInt8 := [180, 0, 71, 3, 27, 96, 46, 100, 172]
abbrev dktX8_far_2 : List UInt8 := dkwX8_far_2 ++ []
def dkwX8_far_1 : List UInt8 := [27, 96, 46, 42, 180, 0, 71, 3, 28, 96, 46, 100, 167, 0, 20, 42, 180, 0, 71, 3, 28, 96, 46, 42]
abbrev dktX8_far_1 : List UInt8 := dkwX8_far_1 ++ dktX8_far_2
def dkwX8_far_0 : List UInt8 := [42, 180, 0, 71, 3, 27, 96, 46, 42, 180, 0, 71, 3, 28, 96, 46, 164, 0, 23, 42, 180, 0, 71, 3]
abbrev dktX8_far_0 : List UInt8 := dkwX8_far_0 ++ dktX8_far_1
theorem dksX8_far_0 : cX8_far.data.toList.drop 0 = dktX8_far_0 := by decide +kernel
theorem dksX8_far_1 : cX8_far.data.toList.drop 24 = dktX8_far_1 := dk_seg dksX8_far_0 24 rfl rfl
theorem dksX8_far_2 : cX8_far.data.toList.drop 48 = dktX8_far_2 := dk_seg dksX8_far_1 24 rfl rfl
theorem dX8_far_0 : decode cX8_far 0 = .ok (.aload_n 0, 1) := dk_42 (dk_at dksX8_far_0 0 rfl rfl)
theorem dX8_far_1 : decode cX8_far 1 = .ok (.getfield 71, 3) := dk_180 0 71 (dk_at dksX8_far_0 1 rfl rfl)
theorem dX8_far_4 : decode cX8_far 4 = .ok (.iconst 0, 1) := dk_3 (dk_at dksX8_far_0 4 rfl rfl)
theorem dX8_far_5 : decode cX8_far 5 = .ok (.iload_n 1, 1) := dk_27 (dk_at dksX8_far_0 5 rfl rfl)
theorem dX8_far_6 : decode cX8_far 6 = .ok (.iadd, 1) := dk_96 (dk_at dksX8_far_0 6 rfl rfl)
theorem dX8_far_7 : decode cX8_far 7 = .ok (.iaload, 1) := dk_46 (dk_at dksX8_far_0 7 rfl rfl)
theorem dX8_far_8 : decode cX8_far 8 = .ok (.aload_n 0, 1) := dk_42 (dk_at dksX8_far_0 8 rfl rfl)
theorem dX8_far_9 : decode cX8_far 9 = .ok (.getfield 71, 3) := dk_180 0 71 (dk_at dksX8_far_0 9 rfl rfl)
theorem dX8_far_12 : decode cX8_far 12 = .ok (.iconst 0, 1) := dk_3 (dk_at dksX8_far_0 12 rfl rfl)
theorem dX8_far_13 : decode cX8_far 13 = .ok (.iload_n 2, 1) := dk_28 (dk_at dksX8_far_0 13 rfl rfl)
theorem dX8_far_14 : decode cX8_far 14 = .ok (.iadd, 1) := dk_96 (dk_at dksX8_far_0 14 rfl rfl)
theorem dX8_far_15 : decode cX8_far 15 = .ok (.iaload, 1) := dk_46 (dk_at dksX8_far_0 15 rfl rfl)
theorem dX8_far_16 : decode cX8_far 16 = .ok (.if_icmp .le 23, 3) := dk_164 0 23 (dk_at dksX8_far_0 16 rfl rfl)
theorem dX8_far_19 : decode cX8_far 19 = .ok (.aload_n 0, 1) := dk_42 (dk_at dksX8_far_0 19 rfl rfl)
theorem dX8_far_20 : decode cX8_far 20 = .ok (.getfield 71, 3) := dk_180 0 71 (dk_at dksX8_far_0 20 rfl rfl)
theorem dX8_far_23 : decode cX8_far 23 = .ok (.iconst 0, 1) := dk_3 (dk_at dksX8_far_0 23 rfl rfl)
theorem dX8_far_24 : decode cX8_far 24 = .ok (.iload_n 1, 1) := dk_27 (dk_at dksX8_far_1 0 rfl rfl)
theorem dX8_far_25 : decode cX8_far 25 = .ok (.iadd, 1) := dk_96 (dk_at dksX8_far_1 1 rfl rfl)
theorem dX8_far_26 : decode cX8_far 26 = .ok (.iaload, 1) := dk_46 (dk_at dksX8_far_1 2 rfl rfl)
theorem dX8_far_27 : decode cX8_far 27 = .ok (.aload_n 0, 1) := dk_42 (dk_at dksX8_far_1 3 rfl rfl)
theorem dX8_far_28 : decode cX8_far 28 = .ok (.getfield 71, 3) := dk_180 0 71 (dk_at dksX8_far_1 4 rfl rfl)
theorem dX8_far_31 : decode cX8_far 31 = .ok (.iconst 0, 1) := dk_3 (dk_at dksX8_far_1 7 rfl rfl)
theorem dX8_far_32 : decode cX8_far 32 = .ok (.iload_n 2, 1) := dk_28 (dk_at dksX8_far_1 8 rfl rfl)
theorem dX8_far_33 : decode cX8_far 33 = .ok (.iadd, 1) := dk_96 (dk_at dksX8_far_1 9 rfl rfl)
theorem dX8_far_34 : decode cX8_far 34 = .ok (.iaload, 1) := dk_46 (dk_at dksX8_far_1 10 rfl rfl)
theorem dX8_far_35 : decode cX8_far 35 = .ok (.isub, 1) := dk_100 (dk_at dksX8_far_1 11 rfl rfl)
theorem dX8_far_36 : decode cX8_far 36 = .ok (.goto 20, 3) := dk_167 0 20 (dk_at dksX8_far_1 12 rfl rfl)
theorem dX8_far_39 : decode cX8_far 39 = .ok (.aload_n 0, 1) := dk_42 (dk_at dksX8_far_1 15 rfl rfl)
theorem dX8_far_40 : decode cX8_far 40 = .ok (.getfield 71, 3) := dk_180 0 71 (dk_at dksX8_far_1 16 rfl rfl)
theorem dX8_far_43 : decode cX8_far 43 = .ok (.iconst 0, 1) := dk_3 (dk_at dksX8_far_1 19 rfl rfl)
theorem dX8_far_44 : decode cX8_far 44 = .ok (.iload_n 2, 1) := dk_28 (dk_at dksX8_far_1 20 rfl rfl)
theorem dX8_far_45 : decode cX8_far 45 = .ok (.iadd, 1) := dk_96 (dk_at dksX8_far_1 21 rfl rfl)
theorem dX8_far_46 : decode cX8_far 46 = .ok (.iaload, 1) := dk_46 (dk_at dksX8_far_1 22 rfl rfl)
theorem dX8_far_47 : decode cX8_far 47 = .ok (.aload_n 0, 1) := dk_42 (dk_at dksX8_far_1 23 rfl rfl)
theorem dX8_far_48 : decode cX8_far 48 = .ok (.getfield 71, 3) := dk_180 0 71 (dk_at dksX8_far_2 0 rfl rfl)
theorem dX8_far_51 : decode cX8_far 51 = .ok (.iconst 0, 1) := dk_3 (dk_at dksX8_far_2 3 rfl rfl)
theorem dX8_far_52 : decode cX8_far 52 = .ok (.iload_n 1, 1) := dk_27 (dk_at dksX8_far_2 4 rfl rfl)
theorem dX8_far_53 : decode cX8_far 53 = .ok (.iadd, 1) := dk_96 (dk_at dksX8_far_2 5 rfl rfl)
theorem dX8_far_54 : decode cX8_far 54 = .ok (.iaload, 1) := dk_46 (dk_at dksX8_far_2 6 rfl rfl)
theorem dX8_far_55 : decode cX8_far 55 = .ok (.isub, 1) := dk_100 (dk_at dksX8_far_2 7 rfl rfl)
theorem dX8_far_56 : decode cX8_far 56 = .ok (.ireturn, 1) := dk_172 (dk_at dksX8_far_2 8 rfl rfl)
abbrev cX8_thereNow : ByteArray := prog_24_method_76_code
def yX8_thereNow : MethodName := ⟨RX8, "thereNow", "()I"⟩
def dkwX8_thereNow_1 : List UInt8 := [128, 60, 132, 2, 1, 167, 255, 231, 27, 172]
abbrev dktX8_thereNow_1 : List UInt8 := dkwX8_thereNow_1 ++ []
def dkwX8_thereNow_0 : List UInt8 := [3, 60, 3, 61, 28, 42, 180, 0, 179, 162, 0, 23, 27, 42, 180, 0, 71, 16, 35, 28, 96, 46, 28, 120]
abbrev dktX8_thereNow_0 : List UInt8 := dkwX8_thereNow_0 ++ dktX8_thereNow_1
theorem dksX8_thereNow_0 : cX8_thereNow.data.toList.drop 0 = dktX8_thereNow_0 := by decide +kernel
theorem dksX8_thereNow_1 : cX8_thereNow.data.toList.drop 24 = dktX8_thereNow_1 := dk_seg dksX8_thereNow_0 24 rfl rfl
theorem dX8_thereNow_0 : decode cX8_thereNow 0 = .ok (.iconst 0, 1) := dk_3 (dk_at dksX8_thereNow_0 0 rfl rfl)
theorem dX8_thereNow_1 : decode cX8_thereNow 1 = .ok (.istore_n 1, 1) := dk_60 (dk_at dksX8_thereNow_0 1 rfl rfl)
theorem dX8_thereNow_2 : decode cX8_thereNow 2 = .ok (.iconst 0, 1) := dk_3 (dk_at dksX8_thereNow_0 2 rfl rfl)
theorem dX8_thereNow_3 : decode cX8_thereNow 3 = .ok (.istore_n 2, 1) := dk_61 (dk_at dksX8_thereNow_0 3 rfl rfl)
theorem dX8_thereNow_4 : decode cX8_thereNow 4 = .ok (.iload_n 2, 1) := dk_28 (dk_at dksX8_thereNow_0 4 rfl rfl)
theorem dX8_thereNow_5 : decode cX8_thereNow 5 = .ok (.aload_n 0, 1) := dk_42 (dk_at dksX8_thereNow_0 5 rfl rfl)
theorem dX8_thereNow_6 : decode cX8_thereNow 6 = .ok (.getfield 179, 3) := dk_180 0 179 (dk_at dksX8_thereNow_0 6 rfl rfl)
theorem dX8_thereNow_9 : decode cX8_thereNow 9 = .ok (.if_icmp .ge 23, 3) := dk_162 0 23 (dk_at dksX8_thereNow_0 9 rfl rfl)
theorem dX8_thereNow_12 : decode cX8_thereNow 12 = .ok (.iload_n 1, 1) := dk_27 (dk_at dksX8_thereNow_0 12 rfl rfl)
theorem dX8_thereNow_13 : decode cX8_thereNow 13 = .ok (.aload_n 0, 1) := dk_42 (dk_at dksX8_thereNow_0 13 rfl rfl)
theorem dX8_thereNow_14 : decode cX8_thereNow 14 = .ok (.getfield 71, 3) := dk_180 0 71 (dk_at dksX8_thereNow_0 14 rfl rfl)
theorem dX8_thereNow_17 : decode cX8_thereNow 17 = .ok (.bipush 35, 2) := dk_16 35 (dk_at dksX8_thereNow_0 17 rfl rfl)
theorem dX8_thereNow_19 : decode cX8_thereNow 19 = .ok (.iload_n 2, 1) := dk_28 (dk_at dksX8_thereNow_0 19 rfl rfl)
theorem dX8_thereNow_20 : decode cX8_thereNow 20 = .ok (.iadd, 1) := dk_96 (dk_at dksX8_thereNow_0 20 rfl rfl)
theorem dX8_thereNow_21 : decode cX8_thereNow 21 = .ok (.iaload, 1) := dk_46 (dk_at dksX8_thereNow_0 21 rfl rfl)
theorem dX8_thereNow_22 : decode cX8_thereNow 22 = .ok (.iload_n 2, 1) := dk_28 (dk_at dksX8_thereNow_0 22 rfl rfl)
theorem dX8_thereNow_23 : decode cX8_thereNow 23 = .ok (.ishl, 1) := dk_120 (dk_at dksX8_thereNow_0 23 rfl rfl)
theorem dX8_thereNow_24 : decode cX8_thereNow 24 = .ok (.ior, 1) := dk_128 (dk_at dksX8_thereNow_1 0 rfl rfl)
theorem dX8_thereNow_25 : decode cX8_thereNow 25 = .ok (.istore_n 1, 1) := dk_60 (dk_at dksX8_thereNow_1 1 rfl rfl)
theorem dX8_thereNow_26 : decode cX8_thereNow 26 = .ok (.iinc 2 1, 3) := dk_132 2 1 (dk_at dksX8_thereNow_1 2 rfl rfl)
theorem dX8_thereNow_29 : decode cX8_thereNow 29 = .ok (.goto (-25), 3) := dk_167 255 231 (dk_at dksX8_thereNow_1 5 rfl rfl)
theorem dX8_thereNow_32 : decode cX8_thereNow 32 = .ok (.iload_n 1, 1) := dk_27 (dk_at dksX8_thereNow_1 8 rfl rfl)
theorem dX8_thereNow_33 : decode cX8_thereNow 33 = .ok (.ireturn, 1) := dk_172 (dk_at dksX8_thereNow_1 9 rfl rfl)
abbrev cX8_odd : ByteArray := prog_24_method_77_code
def yX8_odd : MethodName := ⟨RX8, "odd", "(I)I"⟩
def dkwX8_odd_1 : List UInt8 := [27, 5, 112, 172]
abbrev dktX8_odd_1 : List UInt8 := dkwX8_odd_1 ++ []
def dkwX8_odd_0 : List UInt8 := [3, 60, 3, 61, 28, 16, 7, 162, 0, 17, 27, 26, 28, 122, 4, 126, 96, 60, 132, 2, 1, 167, 255, 239]
abbrev dktX8_odd_0 : List UInt8 := dkwX8_odd_0 ++ dktX8_odd_1
theorem dksX8_odd_0 : cX8_odd.data.toList.drop 0 = dktX8_odd_0 := by decide +kernel
theorem dksX8_odd_1 : cX8_odd.data.toList.drop 24 = dktX8_odd_1 := dk_seg dksX8_odd_0 24 rfl rfl
theorem dX8_odd_0 : decode cX8_odd 0 = .ok (.iconst 0, 1) := dk_3 (dk_at dksX8_odd_0 0 rfl rfl)
theorem dX8_odd_1 : decode cX8_odd 1 = .ok (.istore_n 1, 1) := dk_60 (dk_at dksX8_odd_0 1 rfl rfl)
theorem dX8_odd_2 : decode cX8_odd 2 = .ok (.iconst 0, 1) := dk_3 (dk_at dksX8_odd_0 2 rfl rfl)
theorem dX8_odd_3 : decode cX8_odd 3 = .ok (.istore_n 2, 1) := dk_61 (dk_at dksX8_odd_0 3 rfl rfl)
theorem dX8_odd_4 : decode cX8_odd 4 = .ok (.iload_n 2, 1) := dk_28 (dk_at dksX8_odd_0 4 rfl rfl)
theorem dX8_odd_5 : decode cX8_odd 5 = .ok (.bipush 7, 2) := dk_16 7 (dk_at dksX8_odd_0 5 rfl rfl)
theorem dX8_odd_7 : decode cX8_odd 7 = .ok (.if_icmp .ge 17, 3) := dk_162 0 17 (dk_at dksX8_odd_0 7 rfl rfl)
theorem dX8_odd_10 : decode cX8_odd 10 = .ok (.iload_n 1, 1) := dk_27 (dk_at dksX8_odd_0 10 rfl rfl)
theorem dX8_odd_11 : decode cX8_odd 11 = .ok (.iload_n 0, 1) := dk_26 (dk_at dksX8_odd_0 11 rfl rfl)
theorem dX8_odd_12 : decode cX8_odd 12 = .ok (.iload_n 2, 1) := dk_28 (dk_at dksX8_odd_0 12 rfl rfl)
theorem dX8_odd_13 : decode cX8_odd 13 = .ok (.ishr, 1) := dk_122 (dk_at dksX8_odd_0 13 rfl rfl)
theorem dX8_odd_14 : decode cX8_odd 14 = .ok (.iconst 1, 1) := dk_4 (dk_at dksX8_odd_0 14 rfl rfl)
theorem dX8_odd_15 : decode cX8_odd 15 = .ok (.iand, 1) := dk_126 (dk_at dksX8_odd_0 15 rfl rfl)
theorem dX8_odd_16 : decode cX8_odd 16 = .ok (.iadd, 1) := dk_96 (dk_at dksX8_odd_0 16 rfl rfl)
theorem dX8_odd_17 : decode cX8_odd 17 = .ok (.istore_n 1, 1) := dk_60 (dk_at dksX8_odd_0 17 rfl rfl)
theorem dX8_odd_18 : decode cX8_odd 18 = .ok (.iinc 2 1, 3) := dk_132 2 1 (dk_at dksX8_odd_0 18 rfl rfl)
theorem dX8_odd_21 : decode cX8_odd 21 = .ok (.goto (-17), 3) := dk_167 255 239 (dk_at dksX8_odd_0 21 rfl rfl)
theorem dX8_odd_24 : decode cX8_odd 24 = .ok (.iload_n 1, 1) := dk_27 (dk_at dksX8_odd_1 0 rfl rfl)
theorem dX8_odd_25 : decode cX8_odd 25 = .ok (.iconst 2, 1) := dk_5 (dk_at dksX8_odd_1 1 rfl rfl)
theorem dX8_odd_26 : decode cX8_odd 26 = .ok (.irem, 1) := dk_112 (dk_at dksX8_odd_1 2 rfl rfl)
theorem dX8_odd_27 : decode cX8_odd 27 = .ok (.ireturn, 1) := dk_172 (dk_at dksX8_odd_1 3 rfl rfl)
abbrev cX8_mate : ByteArray := prog_24_method_80_code
def yX8_mate : MethodName := ⟨RX8, "mate", "(I)I"⟩
def dkwX8_mate_1 : List UInt8 := [180, 0, 95, 27, 46, 172]
abbrev dktX8_mate_1 : List UInt8 := dkwX8_mate_1 ++ []
def dkwX8_mate_0 : List UInt8 := [42, 3, 181, 0, 3, 42, 27, 4, 182, 1, 134, 154, 0, 5, 3, 172, 42, 182, 1, 155, 87, 42]
abbrev dktX8_mate_0 : List UInt8 := dkwX8_mate_0 ++ dktX8_mate_1
theorem dksX8_mate_0 : cX8_mate.data.toList.drop 0 = dktX8_mate_0 := by decide +kernel
theorem dksX8_mate_1 : cX8_mate.data.toList.drop 22 = dktX8_mate_1 := dk_seg dksX8_mate_0 22 rfl rfl
theorem dX8_mate_0 : decode cX8_mate 0 = .ok (.aload_n 0, 1) := dk_42 (dk_at dksX8_mate_0 0 rfl rfl)
theorem dX8_mate_1 : decode cX8_mate 1 = .ok (.iconst 0, 1) := dk_3 (dk_at dksX8_mate_0 1 rfl rfl)
theorem dX8_mate_2 : decode cX8_mate 2 = .ok (.putfield 3, 3) := dk_181 0 3 (dk_at dksX8_mate_0 2 rfl rfl)
theorem dX8_mate_5 : decode cX8_mate 5 = .ok (.aload_n 0, 1) := dk_42 (dk_at dksX8_mate_0 5 rfl rfl)
theorem dX8_mate_6 : decode cX8_mate 6 = .ok (.iload_n 1, 1) := dk_27 (dk_at dksX8_mate_0 6 rfl rfl)
theorem dX8_mate_7 : decode cX8_mate 7 = .ok (.iconst 1, 1) := dk_4 (dk_at dksX8_mate_0 7 rfl rfl)
theorem dX8_mate_8 : decode cX8_mate 8 = .ok (.invokevirtual 390, 3) := dk_182 1 134 (dk_at dksX8_mate_0 8 rfl rfl)
theorem dX8_mate_11 : decode cX8_mate 11 = .ok (.ifCond .ne 5, 3) := dk_154 0 5 (dk_at dksX8_mate_0 11 rfl rfl)
theorem dX8_mate_14 : decode cX8_mate 14 = .ok (.iconst 0, 1) := dk_3 (dk_at dksX8_mate_0 14 rfl rfl)
theorem dX8_mate_15 : decode cX8_mate 15 = .ok (.ireturn, 1) := dk_172 (dk_at dksX8_mate_0 15 rfl rfl)
theorem dX8_mate_16 : decode cX8_mate 16 = .ok (.aload_n 0, 1) := dk_42 (dk_at dksX8_mate_0 16 rfl rfl)
theorem dX8_mate_17 : decode cX8_mate 17 = .ok (.invokevirtual 411, 3) := dk_182 1 155 (dk_at dksX8_mate_0 17 rfl rfl)
theorem dX8_mate_20 : decode cX8_mate 20 = .ok (.pop, 1) := dk_87 (dk_at dksX8_mate_0 20 rfl rfl)
theorem dX8_mate_21 : decode cX8_mate 21 = .ok (.aload_n 0, 1) := dk_42 (dk_at dksX8_mate_0 21 rfl rfl)
theorem dX8_mate_22 : decode cX8_mate 22 = .ok (.getfield 95, 3) := dk_180 0 95 (dk_at dksX8_mate_1 0 rfl rfl)
theorem dX8_mate_25 : decode cX8_mate 25 = .ok (.iload_n 1, 1) := dk_27 (dk_at dksX8_mate_1 3 rfl rfl)
theorem dX8_mate_26 : decode cX8_mate 26 = .ok (.iaload, 1) := dk_46 (dk_at dksX8_mate_1 4 rfl rfl)
theorem dX8_mate_27 : decode cX8_mate 27 = .ok (.ireturn, 1) := dk_172 (dk_at dksX8_mate_1 5 rfl rfl)
abbrev cX8_ladder : ByteArray := prog_24_method_82_code
def yX8_ladder : MethodName := ⟨RX8, "ladder", "()I"⟩
def dkwX8_ladder_0 : List UInt8 := [42, 3, 181, 0, 3, 42, 182, 1, 158, 172]
abbrev dktX8_ladder_0 : List UInt8 := dkwX8_ladder_0 ++ []
theorem dksX8_ladder_0 : cX8_ladder.data.toList.drop 0 = dktX8_ladder_0 := by decide +kernel
theorem dX8_ladder_0 : decode cX8_ladder 0 = .ok (.aload_n 0, 1) := dk_42 (dk_at dksX8_ladder_0 0 rfl rfl)
theorem dX8_ladder_1 : decode cX8_ladder 1 = .ok (.iconst 0, 1) := dk_3 (dk_at dksX8_ladder_0 1 rfl rfl)
theorem dX8_ladder_2 : decode cX8_ladder 2 = .ok (.putfield 3, 3) := dk_181 0 3 (dk_at dksX8_ladder_0 2 rfl rfl)
theorem dX8_ladder_5 : decode cX8_ladder 5 = .ok (.aload_n 0, 1) := dk_42 (dk_at dksX8_ladder_0 5 rfl rfl)
theorem dX8_ladder_6 : decode cX8_ladder 6 = .ok (.invokevirtual 414, 3) := dk_182 1 158 (dk_at dksX8_ladder_0 6 rfl rfl)
theorem dX8_ladder_9 : decode cX8_ladder 9 = .ok (.ireturn, 1) := dk_172 (dk_at dksX8_ladder_0 9 rfl rfl)
abbrev cX8_layLadder : ByteArray := prog_24_method_81_code
def yX8_layLadder : MethodName := ⟨RX8, "layLadder", "()I"⟩
def dkwX8_layLadder_4 : List UInt8 := [164, 0, 12, 42, 180, 0, 98, 28, 46, 167, 0, 4, 27, 60, 132, 2, 255, 167, 255, 153, 27, 172]
abbrev dktX8_layLadder_4 : List UInt8 := dkwX8_layLadder_4 ++ []
def dkwX8_layLadder_3 : List UInt8 := [28, 42, 180, 0, 98, 29, 46, 4, 96, 79, 132, 3, 1, 167, 255, 195, 42, 180, 0, 98, 28, 46, 27]
abbrev dktX8_layLadder_3 : List UInt8 := dkwX8_layLadder_3 ++ dktX8_layLadder_4
def dkwX8_layLadder_2 : List UInt8 := [164, 0, 34, 42, 180, 0, 98, 29, 46, 4, 96, 42, 180, 0, 98, 28, 46, 164, 0, 17, 42, 180, 0, 98]
abbrev dktX8_layLadder_2 : List UInt8 := dkwX8_layLadder_2 ++ dktX8_layLadder_3
def dkwX8_layLadder_1 : List UInt8 := [29, 42, 180, 0, 179, 162, 0, 59, 42, 180, 0, 71, 3, 29, 96, 46, 42, 180, 0, 71, 3, 28, 96, 46]
abbrev dktX8_layLadder_1 : List UInt8 := dkwX8_layLadder_1 ++ dktX8_layLadder_2
def dkwX8_layLadder_0 : List UInt8 := [3, 60, 42, 180, 0, 179, 4, 100, 61, 28, 155, 0, 105, 42, 180, 0, 98, 28, 4, 79, 28, 4, 96, 62]
abbrev dktX8_layLadder_0 : List UInt8 := dkwX8_layLadder_0 ++ dktX8_layLadder_1
theorem dksX8_layLadder_0 : cX8_layLadder.data.toList.drop 0 = dktX8_layLadder_0 := by decide +kernel
theorem dksX8_layLadder_1 : cX8_layLadder.data.toList.drop 24 = dktX8_layLadder_1 := dk_seg dksX8_layLadder_0 24 rfl rfl
theorem dksX8_layLadder_2 : cX8_layLadder.data.toList.drop 48 = dktX8_layLadder_2 := dk_seg dksX8_layLadder_1 24 rfl rfl
theorem dksX8_layLadder_3 : cX8_layLadder.data.toList.drop 72 = dktX8_layLadder_3 := dk_seg dksX8_layLadder_2 24 rfl rfl
theorem dksX8_layLadder_4 : cX8_layLadder.data.toList.drop 95 = dktX8_layLadder_4 := dk_seg dksX8_layLadder_3 23 rfl rfl
theorem dX8_layLadder_0 : decode cX8_layLadder 0 = .ok (.iconst 0, 1) := dk_3 (dk_at dksX8_layLadder_0 0 rfl rfl)
theorem dX8_layLadder_1 : decode cX8_layLadder 1 = .ok (.istore_n 1, 1) := dk_60 (dk_at dksX8_layLadder_0 1 rfl rfl)
theorem dX8_layLadder_2 : decode cX8_layLadder 2 = .ok (.aload_n 0, 1) := dk_42 (dk_at dksX8_layLadder_0 2 rfl rfl)
theorem dX8_layLadder_3 : decode cX8_layLadder 3 = .ok (.getfield 179, 3) := dk_180 0 179 (dk_at dksX8_layLadder_0 3 rfl rfl)
theorem dX8_layLadder_6 : decode cX8_layLadder 6 = .ok (.iconst 1, 1) := dk_4 (dk_at dksX8_layLadder_0 6 rfl rfl)
theorem dX8_layLadder_7 : decode cX8_layLadder 7 = .ok (.isub, 1) := dk_100 (dk_at dksX8_layLadder_0 7 rfl rfl)
theorem dX8_layLadder_8 : decode cX8_layLadder 8 = .ok (.istore_n 2, 1) := dk_61 (dk_at dksX8_layLadder_0 8 rfl rfl)
theorem dX8_layLadder_9 : decode cX8_layLadder 9 = .ok (.iload_n 2, 1) := dk_28 (dk_at dksX8_layLadder_0 9 rfl rfl)
theorem dX8_layLadder_10 : decode cX8_layLadder 10 = .ok (.ifCond .lt 105, 3) := dk_155 0 105 (dk_at dksX8_layLadder_0 10 rfl rfl)
theorem dX8_layLadder_13 : decode cX8_layLadder 13 = .ok (.aload_n 0, 1) := dk_42 (dk_at dksX8_layLadder_0 13 rfl rfl)
theorem dX8_layLadder_14 : decode cX8_layLadder 14 = .ok (.getfield 98, 3) := dk_180 0 98 (dk_at dksX8_layLadder_0 14 rfl rfl)
theorem dX8_layLadder_17 : decode cX8_layLadder 17 = .ok (.iload_n 2, 1) := dk_28 (dk_at dksX8_layLadder_0 17 rfl rfl)
theorem dX8_layLadder_18 : decode cX8_layLadder 18 = .ok (.iconst 1, 1) := dk_4 (dk_at dksX8_layLadder_0 18 rfl rfl)
theorem dX8_layLadder_19 : decode cX8_layLadder 19 = .ok (.iastore, 1) := dk_79 (dk_at dksX8_layLadder_0 19 rfl rfl)
theorem dX8_layLadder_20 : decode cX8_layLadder 20 = .ok (.iload_n 2, 1) := dk_28 (dk_at dksX8_layLadder_0 20 rfl rfl)
theorem dX8_layLadder_21 : decode cX8_layLadder 21 = .ok (.iconst 1, 1) := dk_4 (dk_at dksX8_layLadder_0 21 rfl rfl)
theorem dX8_layLadder_22 : decode cX8_layLadder 22 = .ok (.iadd, 1) := dk_96 (dk_at dksX8_layLadder_0 22 rfl rfl)
theorem dX8_layLadder_23 : decode cX8_layLadder 23 = .ok (.istore_n 3, 1) := dk_62 (dk_at dksX8_layLadder_0 23 rfl rfl)
theorem dX8_layLadder_24 : decode cX8_layLadder 24 = .ok (.iload_n 3, 1) := dk_29 (dk_at dksX8_layLadder_1 0 rfl rfl)
theorem dX8_layLadder_25 : decode cX8_layLadder 25 = .ok (.aload_n 0, 1) := dk_42 (dk_at dksX8_layLadder_1 1 rfl rfl)
theorem dX8_layLadder_26 : decode cX8_layLadder 26 = .ok (.getfield 179, 3) := dk_180 0 179 (dk_at dksX8_layLadder_1 2 rfl rfl)
theorem dX8_layLadder_29 : decode cX8_layLadder 29 = .ok (.if_icmp .ge 59, 3) := dk_162 0 59 (dk_at dksX8_layLadder_1 5 rfl rfl)
theorem dX8_layLadder_32 : decode cX8_layLadder 32 = .ok (.aload_n 0, 1) := dk_42 (dk_at dksX8_layLadder_1 8 rfl rfl)
theorem dX8_layLadder_33 : decode cX8_layLadder 33 = .ok (.getfield 71, 3) := dk_180 0 71 (dk_at dksX8_layLadder_1 9 rfl rfl)
theorem dX8_layLadder_36 : decode cX8_layLadder 36 = .ok (.iconst 0, 1) := dk_3 (dk_at dksX8_layLadder_1 12 rfl rfl)
theorem dX8_layLadder_37 : decode cX8_layLadder 37 = .ok (.iload_n 3, 1) := dk_29 (dk_at dksX8_layLadder_1 13 rfl rfl)
theorem dX8_layLadder_38 : decode cX8_layLadder 38 = .ok (.iadd, 1) := dk_96 (dk_at dksX8_layLadder_1 14 rfl rfl)
theorem dX8_layLadder_39 : decode cX8_layLadder 39 = .ok (.iaload, 1) := dk_46 (dk_at dksX8_layLadder_1 15 rfl rfl)
theorem dX8_layLadder_40 : decode cX8_layLadder 40 = .ok (.aload_n 0, 1) := dk_42 (dk_at dksX8_layLadder_1 16 rfl rfl)
theorem dX8_layLadder_41 : decode cX8_layLadder 41 = .ok (.getfield 71, 3) := dk_180 0 71 (dk_at dksX8_layLadder_1 17 rfl rfl)
theorem dX8_layLadder_44 : decode cX8_layLadder 44 = .ok (.iconst 0, 1) := dk_3 (dk_at dksX8_layLadder_1 20 rfl rfl)
theorem dX8_layLadder_45 : decode cX8_layLadder 45 = .ok (.iload_n 2, 1) := dk_28 (dk_at dksX8_layLadder_1 21 rfl rfl)
theorem dX8_layLadder_46 : decode cX8_layLadder 46 = .ok (.iadd, 1) := dk_96 (dk_at dksX8_layLadder_1 22 rfl rfl)
theorem dX8_layLadder_47 : decode cX8_layLadder 47 = .ok (.iaload, 1) := dk_46 (dk_at dksX8_layLadder_1 23 rfl rfl)
theorem dX8_layLadder_48 : decode cX8_layLadder 48 = .ok (.if_icmp .le 34, 3) := dk_164 0 34 (dk_at dksX8_layLadder_2 0 rfl rfl)
theorem dX8_layLadder_51 : decode cX8_layLadder 51 = .ok (.aload_n 0, 1) := dk_42 (dk_at dksX8_layLadder_2 3 rfl rfl)
theorem dX8_layLadder_52 : decode cX8_layLadder 52 = .ok (.getfield 98, 3) := dk_180 0 98 (dk_at dksX8_layLadder_2 4 rfl rfl)
theorem dX8_layLadder_55 : decode cX8_layLadder 55 = .ok (.iload_n 3, 1) := dk_29 (dk_at dksX8_layLadder_2 7 rfl rfl)
theorem dX8_layLadder_56 : decode cX8_layLadder 56 = .ok (.iaload, 1) := dk_46 (dk_at dksX8_layLadder_2 8 rfl rfl)
theorem dX8_layLadder_57 : decode cX8_layLadder 57 = .ok (.iconst 1, 1) := dk_4 (dk_at dksX8_layLadder_2 9 rfl rfl)
theorem dX8_layLadder_58 : decode cX8_layLadder 58 = .ok (.iadd, 1) := dk_96 (dk_at dksX8_layLadder_2 10 rfl rfl)
theorem dX8_layLadder_59 : decode cX8_layLadder 59 = .ok (.aload_n 0, 1) := dk_42 (dk_at dksX8_layLadder_2 11 rfl rfl)
theorem dX8_layLadder_60 : decode cX8_layLadder 60 = .ok (.getfield 98, 3) := dk_180 0 98 (dk_at dksX8_layLadder_2 12 rfl rfl)
theorem dX8_layLadder_63 : decode cX8_layLadder 63 = .ok (.iload_n 2, 1) := dk_28 (dk_at dksX8_layLadder_2 15 rfl rfl)
theorem dX8_layLadder_64 : decode cX8_layLadder 64 = .ok (.iaload, 1) := dk_46 (dk_at dksX8_layLadder_2 16 rfl rfl)
theorem dX8_layLadder_65 : decode cX8_layLadder 65 = .ok (.if_icmp .le 17, 3) := dk_164 0 17 (dk_at dksX8_layLadder_2 17 rfl rfl)
theorem dX8_layLadder_68 : decode cX8_layLadder 68 = .ok (.aload_n 0, 1) := dk_42 (dk_at dksX8_layLadder_2 20 rfl rfl)
theorem dX8_layLadder_69 : decode cX8_layLadder 69 = .ok (.getfield 98, 3) := dk_180 0 98 (dk_at dksX8_layLadder_2 21 rfl rfl)
theorem dX8_layLadder_72 : decode cX8_layLadder 72 = .ok (.iload_n 2, 1) := dk_28 (dk_at dksX8_layLadder_3 0 rfl rfl)
theorem dX8_layLadder_73 : decode cX8_layLadder 73 = .ok (.aload_n 0, 1) := dk_42 (dk_at dksX8_layLadder_3 1 rfl rfl)
theorem dX8_layLadder_74 : decode cX8_layLadder 74 = .ok (.getfield 98, 3) := dk_180 0 98 (dk_at dksX8_layLadder_3 2 rfl rfl)
theorem dX8_layLadder_77 : decode cX8_layLadder 77 = .ok (.iload_n 3, 1) := dk_29 (dk_at dksX8_layLadder_3 5 rfl rfl)
theorem dX8_layLadder_78 : decode cX8_layLadder 78 = .ok (.iaload, 1) := dk_46 (dk_at dksX8_layLadder_3 6 rfl rfl)
theorem dX8_layLadder_79 : decode cX8_layLadder 79 = .ok (.iconst 1, 1) := dk_4 (dk_at dksX8_layLadder_3 7 rfl rfl)
theorem dX8_layLadder_80 : decode cX8_layLadder 80 = .ok (.iadd, 1) := dk_96 (dk_at dksX8_layLadder_3 8 rfl rfl)
theorem dX8_layLadder_81 : decode cX8_layLadder 81 = .ok (.iastore, 1) := dk_79 (dk_at dksX8_layLadder_3 9 rfl rfl)
theorem dX8_layLadder_82 : decode cX8_layLadder 82 = .ok (.iinc 3 1, 3) := dk_132 3 1 (dk_at dksX8_layLadder_3 10 rfl rfl)
theorem dX8_layLadder_85 : decode cX8_layLadder 85 = .ok (.goto (-61), 3) := dk_167 255 195 (dk_at dksX8_layLadder_3 13 rfl rfl)
theorem dX8_layLadder_88 : decode cX8_layLadder 88 = .ok (.aload_n 0, 1) := dk_42 (dk_at dksX8_layLadder_3 16 rfl rfl)
theorem dX8_layLadder_89 : decode cX8_layLadder 89 = .ok (.getfield 98, 3) := dk_180 0 98 (dk_at dksX8_layLadder_3 17 rfl rfl)
theorem dX8_layLadder_92 : decode cX8_layLadder 92 = .ok (.iload_n 2, 1) := dk_28 (dk_at dksX8_layLadder_3 20 rfl rfl)
theorem dX8_layLadder_93 : decode cX8_layLadder 93 = .ok (.iaload, 1) := dk_46 (dk_at dksX8_layLadder_3 21 rfl rfl)
theorem dX8_layLadder_94 : decode cX8_layLadder 94 = .ok (.iload_n 1, 1) := dk_27 (dk_at dksX8_layLadder_3 22 rfl rfl)
theorem dX8_layLadder_95 : decode cX8_layLadder 95 = .ok (.if_icmp .le 12, 3) := dk_164 0 12 (dk_at dksX8_layLadder_4 0 rfl rfl)
theorem dX8_layLadder_98 : decode cX8_layLadder 98 = .ok (.aload_n 0, 1) := dk_42 (dk_at dksX8_layLadder_4 3 rfl rfl)
theorem dX8_layLadder_99 : decode cX8_layLadder 99 = .ok (.getfield 98, 3) := dk_180 0 98 (dk_at dksX8_layLadder_4 4 rfl rfl)
theorem dX8_layLadder_102 : decode cX8_layLadder 102 = .ok (.iload_n 2, 1) := dk_28 (dk_at dksX8_layLadder_4 7 rfl rfl)
theorem dX8_layLadder_103 : decode cX8_layLadder 103 = .ok (.iaload, 1) := dk_46 (dk_at dksX8_layLadder_4 8 rfl rfl)
theorem dX8_layLadder_104 : decode cX8_layLadder 104 = .ok (.goto 4, 3) := dk_167 0 4 (dk_at dksX8_layLadder_4 9 rfl rfl)
theorem dX8_layLadder_107 : decode cX8_layLadder 107 = .ok (.iload_n 1, 1) := dk_27 (dk_at dksX8_layLadder_4 12 rfl rfl)
theorem dX8_layLadder_108 : decode cX8_layLadder 108 = .ok (.istore_n 1, 1) := dk_60 (dk_at dksX8_layLadder_4 13 rfl rfl)
theorem dX8_layLadder_109 : decode cX8_layLadder 109 = .ok (.iinc 2 (-1), 3) := dk_132 2 255 (dk_at dksX8_layLadder_4 14 rfl rfl)
theorem dX8_layLadder_112 : decode cX8_layLadder 112 = .ok (.goto (-103), 3) := dk_167 255 153 (dk_at dksX8_layLadder_4 17 rfl rfl)
theorem dX8_layLadder_115 : decode cX8_layLadder 115 = .ok (.iload_n 1, 1) := dk_27 (dk_at dksX8_layLadder_4 20 rfl rfl)
theorem dX8_layLadder_116 : decode cX8_layLadder 116 = .ok (.ireturn, 1) := dk_172 (dk_at dksX8_layLadder_4 21 rfl rfl)
abbrev cX8_rung : ByteArray := prog_24_method_83_code
def yX8_rung : MethodName := ⟨RX8, "rung", "(I)I"⟩
def dkwX8_rung_4 : List UInt8 := [167, 255, 214, 21, 5, 62, 132, 4, 1, 167, 255, 194, 29, 172]
abbrev dktX8_rung_4 : List UInt8 := dkwX8_rung_4 ++ []
def dkwX8_rung_3 : List UInt8 := [42, 180, 0, 71, 3, 21, 5, 96, 46, 42, 180, 0, 71, 3, 29, 96, 46, 163, 0, 9, 132, 5, 1]
abbrev dktX8_rung_3 : List UInt8 := dkwX8_rung_3 ++ dktX8_rung_4
def dkwX8_rung_2 : List UInt8 := [29, 4, 96, 54, 5, 42, 180, 0, 98, 21, 5, 46, 28, 21, 4, 100, 160, 0, 28, 29, 2, 159, 0, 29]
abbrev dktX8_rung_2 : List UInt8 := dkwX8_rung_2 ++ dktX8_rung_3
def dkwX8_rung_1 : List UInt8 := [172, 42, 182, 1, 158, 61, 27, 28, 161, 0, 5, 2, 172, 2, 62, 3, 54, 4, 21, 4, 27, 163, 0, 62]
abbrev dktX8_rung_1 : List UInt8 := dkwX8_rung_1 ++ dktX8_rung_2
def dkwX8_rung_0 : List UInt8 := [42, 3, 181, 0, 3, 42, 27, 155, 0, 7, 4, 167, 0, 4, 3, 4, 4, 182, 0, 216, 154, 0, 5, 3]
abbrev dktX8_rung_0 : List UInt8 := dkwX8_rung_0 ++ dktX8_rung_1
theorem dksX8_rung_0 : cX8_rung.data.toList.drop 0 = dktX8_rung_0 := by decide +kernel
theorem dksX8_rung_1 : cX8_rung.data.toList.drop 24 = dktX8_rung_1 := dk_seg dksX8_rung_0 24 rfl rfl
theorem dksX8_rung_2 : cX8_rung.data.toList.drop 48 = dktX8_rung_2 := dk_seg dksX8_rung_1 24 rfl rfl
theorem dksX8_rung_3 : cX8_rung.data.toList.drop 72 = dktX8_rung_3 := dk_seg dksX8_rung_2 24 rfl rfl
theorem dksX8_rung_4 : cX8_rung.data.toList.drop 95 = dktX8_rung_4 := dk_seg dksX8_rung_3 23 rfl rfl
theorem dX8_rung_0 : decode cX8_rung 0 = .ok (.aload_n 0, 1) := dk_42 (dk_at dksX8_rung_0 0 rfl rfl)
theorem dX8_rung_1 : decode cX8_rung 1 = .ok (.iconst 0, 1) := dk_3 (dk_at dksX8_rung_0 1 rfl rfl)
theorem dX8_rung_2 : decode cX8_rung 2 = .ok (.putfield 3, 3) := dk_181 0 3 (dk_at dksX8_rung_0 2 rfl rfl)
theorem dX8_rung_5 : decode cX8_rung 5 = .ok (.aload_n 0, 1) := dk_42 (dk_at dksX8_rung_0 5 rfl rfl)
theorem dX8_rung_6 : decode cX8_rung 6 = .ok (.iload_n 1, 1) := dk_27 (dk_at dksX8_rung_0 6 rfl rfl)
theorem dX8_rung_7 : decode cX8_rung 7 = .ok (.ifCond .lt 7, 3) := dk_155 0 7 (dk_at dksX8_rung_0 7 rfl rfl)
theorem dX8_rung_10 : decode cX8_rung 10 = .ok (.iconst 1, 1) := dk_4 (dk_at dksX8_rung_0 10 rfl rfl)
theorem dX8_rung_11 : decode cX8_rung 11 = .ok (.goto 4, 3) := dk_167 0 4 (dk_at dksX8_rung_0 11 rfl rfl)
theorem dX8_rung_14 : decode cX8_rung 14 = .ok (.iconst 0, 1) := dk_3 (dk_at dksX8_rung_0 14 rfl rfl)
theorem dX8_rung_15 : decode cX8_rung 15 = .ok (.iconst 1, 1) := dk_4 (dk_at dksX8_rung_0 15 rfl rfl)
theorem dX8_rung_16 : decode cX8_rung 16 = .ok (.iconst 1, 1) := dk_4 (dk_at dksX8_rung_0 16 rfl rfl)
theorem dX8_rung_17 : decode cX8_rung 17 = .ok (.invokevirtual 216, 3) := dk_182 0 216 (dk_at dksX8_rung_0 17 rfl rfl)
theorem dX8_rung_20 : decode cX8_rung 20 = .ok (.ifCond .ne 5, 3) := dk_154 0 5 (dk_at dksX8_rung_0 20 rfl rfl)
theorem dX8_rung_23 : decode cX8_rung 23 = .ok (.iconst 0, 1) := dk_3 (dk_at dksX8_rung_0 23 rfl rfl)
theorem dX8_rung_24 : decode cX8_rung 24 = .ok (.ireturn, 1) := dk_172 (dk_at dksX8_rung_1 0 rfl rfl)
theorem dX8_rung_25 : decode cX8_rung 25 = .ok (.aload_n 0, 1) := dk_42 (dk_at dksX8_rung_1 1 rfl rfl)
theorem dX8_rung_26 : decode cX8_rung 26 = .ok (.invokevirtual 414, 3) := dk_182 1 158 (dk_at dksX8_rung_1 2 rfl rfl)
theorem dX8_rung_29 : decode cX8_rung 29 = .ok (.istore_n 2, 1) := dk_61 (dk_at dksX8_rung_1 5 rfl rfl)
theorem dX8_rung_30 : decode cX8_rung 30 = .ok (.iload_n 1, 1) := dk_27 (dk_at dksX8_rung_1 6 rfl rfl)
theorem dX8_rung_31 : decode cX8_rung 31 = .ok (.iload_n 2, 1) := dk_28 (dk_at dksX8_rung_1 7 rfl rfl)
theorem dX8_rung_32 : decode cX8_rung 32 = .ok (.if_icmp .lt 5, 3) := dk_161 0 5 (dk_at dksX8_rung_1 8 rfl rfl)
theorem dX8_rung_35 : decode cX8_rung 35 = .ok (.iconst (-1), 1) := dk_2 (dk_at dksX8_rung_1 11 rfl rfl)
theorem dX8_rung_36 : decode cX8_rung 36 = .ok (.ireturn, 1) := dk_172 (dk_at dksX8_rung_1 12 rfl rfl)
theorem dX8_rung_37 : decode cX8_rung 37 = .ok (.iconst (-1), 1) := dk_2 (dk_at dksX8_rung_1 13 rfl rfl)
theorem dX8_rung_38 : decode cX8_rung 38 = .ok (.istore_n 3, 1) := dk_62 (dk_at dksX8_rung_1 14 rfl rfl)
theorem dX8_rung_39 : decode cX8_rung 39 = .ok (.iconst 0, 1) := dk_3 (dk_at dksX8_rung_1 15 rfl rfl)
theorem dX8_rung_40 : decode cX8_rung 40 = .ok (.istore 4, 2) := dk_54 4 (dk_at dksX8_rung_1 16 rfl rfl)
theorem dX8_rung_42 : decode cX8_rung 42 = .ok (.iload 4, 2) := dk_21 4 (dk_at dksX8_rung_1 18 rfl rfl)
theorem dX8_rung_44 : decode cX8_rung 44 = .ok (.iload_n 1, 1) := dk_27 (dk_at dksX8_rung_1 20 rfl rfl)
theorem dX8_rung_45 : decode cX8_rung 45 = .ok (.if_icmp .gt 62, 3) := dk_163 0 62 (dk_at dksX8_rung_1 21 rfl rfl)
theorem dX8_rung_48 : decode cX8_rung 48 = .ok (.iload_n 3, 1) := dk_29 (dk_at dksX8_rung_2 0 rfl rfl)
theorem dX8_rung_49 : decode cX8_rung 49 = .ok (.iconst 1, 1) := dk_4 (dk_at dksX8_rung_2 1 rfl rfl)
theorem dX8_rung_50 : decode cX8_rung 50 = .ok (.iadd, 1) := dk_96 (dk_at dksX8_rung_2 2 rfl rfl)
theorem dX8_rung_51 : decode cX8_rung 51 = .ok (.istore 5, 2) := dk_54 5 (dk_at dksX8_rung_2 3 rfl rfl)
theorem dX8_rung_53 : decode cX8_rung 53 = .ok (.aload_n 0, 1) := dk_42 (dk_at dksX8_rung_2 5 rfl rfl)
theorem dX8_rung_54 : decode cX8_rung 54 = .ok (.getfield 98, 3) := dk_180 0 98 (dk_at dksX8_rung_2 6 rfl rfl)
theorem dX8_rung_57 : decode cX8_rung 57 = .ok (.iload 5, 2) := dk_21 5 (dk_at dksX8_rung_2 9 rfl rfl)
theorem dX8_rung_59 : decode cX8_rung 59 = .ok (.iaload, 1) := dk_46 (dk_at dksX8_rung_2 11 rfl rfl)
theorem dX8_rung_60 : decode cX8_rung 60 = .ok (.iload_n 2, 1) := dk_28 (dk_at dksX8_rung_2 12 rfl rfl)
theorem dX8_rung_61 : decode cX8_rung 61 = .ok (.iload 4, 2) := dk_21 4 (dk_at dksX8_rung_2 13 rfl rfl)
theorem dX8_rung_63 : decode cX8_rung 63 = .ok (.isub, 1) := dk_100 (dk_at dksX8_rung_2 15 rfl rfl)
theorem dX8_rung_64 : decode cX8_rung 64 = .ok (.if_icmp .ne 28, 3) := dk_160 0 28 (dk_at dksX8_rung_2 16 rfl rfl)
theorem dX8_rung_67 : decode cX8_rung 67 = .ok (.iload_n 3, 1) := dk_29 (dk_at dksX8_rung_2 19 rfl rfl)
theorem dX8_rung_68 : decode cX8_rung 68 = .ok (.iconst (-1), 1) := dk_2 (dk_at dksX8_rung_2 20 rfl rfl)
theorem dX8_rung_69 : decode cX8_rung 69 = .ok (.if_icmp .eq 29, 3) := dk_159 0 29 (dk_at dksX8_rung_2 21 rfl rfl)
theorem dX8_rung_72 : decode cX8_rung 72 = .ok (.aload_n 0, 1) := dk_42 (dk_at dksX8_rung_3 0 rfl rfl)
theorem dX8_rung_73 : decode cX8_rung 73 = .ok (.getfield 71, 3) := dk_180 0 71 (dk_at dksX8_rung_3 1 rfl rfl)
theorem dX8_rung_76 : decode cX8_rung 76 = .ok (.iconst 0, 1) := dk_3 (dk_at dksX8_rung_3 4 rfl rfl)
theorem dX8_rung_77 : decode cX8_rung 77 = .ok (.iload 5, 2) := dk_21 5 (dk_at dksX8_rung_3 5 rfl rfl)
theorem dX8_rung_79 : decode cX8_rung 79 = .ok (.iadd, 1) := dk_96 (dk_at dksX8_rung_3 7 rfl rfl)
theorem dX8_rung_80 : decode cX8_rung 80 = .ok (.iaload, 1) := dk_46 (dk_at dksX8_rung_3 8 rfl rfl)
theorem dX8_rung_81 : decode cX8_rung 81 = .ok (.aload_n 0, 1) := dk_42 (dk_at dksX8_rung_3 9 rfl rfl)
theorem dX8_rung_82 : decode cX8_rung 82 = .ok (.getfield 71, 3) := dk_180 0 71 (dk_at dksX8_rung_3 10 rfl rfl)
theorem dX8_rung_85 : decode cX8_rung 85 = .ok (.iconst 0, 1) := dk_3 (dk_at dksX8_rung_3 13 rfl rfl)
theorem dX8_rung_86 : decode cX8_rung 86 = .ok (.iload_n 3, 1) := dk_29 (dk_at dksX8_rung_3 14 rfl rfl)
theorem dX8_rung_87 : decode cX8_rung 87 = .ok (.iadd, 1) := dk_96 (dk_at dksX8_rung_3 15 rfl rfl)
theorem dX8_rung_88 : decode cX8_rung 88 = .ok (.iaload, 1) := dk_46 (dk_at dksX8_rung_3 16 rfl rfl)
theorem dX8_rung_89 : decode cX8_rung 89 = .ok (.if_icmp .gt 9, 3) := dk_163 0 9 (dk_at dksX8_rung_3 17 rfl rfl)
theorem dX8_rung_92 : decode cX8_rung 92 = .ok (.iinc 5 1, 3) := dk_132 5 1 (dk_at dksX8_rung_3 20 rfl rfl)
theorem dX8_rung_95 : decode cX8_rung 95 = .ok (.goto (-42), 3) := dk_167 255 214 (dk_at dksX8_rung_4 0 rfl rfl)
theorem dX8_rung_98 : decode cX8_rung 98 = .ok (.iload 5, 2) := dk_21 5 (dk_at dksX8_rung_4 3 rfl rfl)
theorem dX8_rung_100 : decode cX8_rung 100 = .ok (.istore_n 3, 1) := dk_62 (dk_at dksX8_rung_4 5 rfl rfl)
theorem dX8_rung_101 : decode cX8_rung 101 = .ok (.iinc 4 1, 3) := dk_132 4 1 (dk_at dksX8_rung_4 6 rfl rfl)
theorem dX8_rung_104 : decode cX8_rung 104 = .ok (.goto (-62), 3) := dk_167 255 194 (dk_at dksX8_rung_4 9 rfl rfl)
theorem dX8_rung_107 : decode cX8_rung 107 = .ok (.iload_n 3, 1) := dk_29 (dk_at dksX8_rung_4 12 rfl rfl)
theorem dX8_rung_108 : decode cX8_rung 108 = .ok (.ireturn, 1) := dk_172 (dk_at dksX8_rung_4 13 rfl rfl)
abbrev cX8_fits : ByteArray := prog_24_method_85_code
def yX8_fits : MethodName := ⟨RX8, "fits", "(II)I"⟩
def dkwX8_fits_4 : List UInt8 := [167, 0, 5, 21, 4, 172]
abbrev dktX8_fits_4 : List UInt8 := dkwX8_fits_4 ++ []
def dkwX8_fits_3 : List UInt8 := [160, 0, 8, 21, 5, 167, 0, 5, 21, 4, 54, 4, 132, 5, 1, 167, 255, 215, 28, 154, 0, 7, 29]
abbrev dktX8_fits_3 : List UInt8 := dkwX8_fits_3 ++ dktX8_fits_4
def dkwX8_fits_2 : List UInt8 := [16, 100, 162, 0, 40, 42, 180, 0, 104, 21, 5, 51, 154, 0, 6, 167, 0, 21, 132, 3, 1, 21, 4, 2]
abbrev dktX8_fits_2 : List UInt8 := dkwX8_fits_2 ++ dktX8_fits_3
def dkwX8_fits_1 : List UInt8 := [182, 0, 216, 154, 0, 5, 3, 172, 42, 27, 182, 1, 161, 3, 62, 2, 54, 4, 3, 54, 5, 21, 5]
abbrev dktX8_fits_1 : List UInt8 := dkwX8_fits_1 ++ dktX8_fits_2
def dkwX8_fits_0 : List UInt8 := [42, 3, 181, 0, 3, 42, 27, 4, 182, 1, 134, 153, 0, 18, 42, 28, 3, 4, 184, 1, 122, 5, 4]
abbrev dktX8_fits_0 : List UInt8 := dkwX8_fits_0 ++ dktX8_fits_1
theorem dksX8_fits_0 : cX8_fits.data.toList.drop 0 = dktX8_fits_0 := by decide +kernel
theorem dksX8_fits_1 : cX8_fits.data.toList.drop 23 = dktX8_fits_1 := dk_seg dksX8_fits_0 23 rfl rfl
theorem dksX8_fits_2 : cX8_fits.data.toList.drop 46 = dktX8_fits_2 := dk_seg dksX8_fits_1 23 rfl rfl
theorem dksX8_fits_3 : cX8_fits.data.toList.drop 70 = dktX8_fits_3 := dk_seg dksX8_fits_2 24 rfl rfl
theorem dksX8_fits_4 : cX8_fits.data.toList.drop 93 = dktX8_fits_4 := dk_seg dksX8_fits_3 23 rfl rfl
theorem dX8_fits_0 : decode cX8_fits 0 = .ok (.aload_n 0, 1) := dk_42 (dk_at dksX8_fits_0 0 rfl rfl)
theorem dX8_fits_1 : decode cX8_fits 1 = .ok (.iconst 0, 1) := dk_3 (dk_at dksX8_fits_0 1 rfl rfl)
theorem dX8_fits_2 : decode cX8_fits 2 = .ok (.putfield 3, 3) := dk_181 0 3 (dk_at dksX8_fits_0 2 rfl rfl)
theorem dX8_fits_5 : decode cX8_fits 5 = .ok (.aload_n 0, 1) := dk_42 (dk_at dksX8_fits_0 5 rfl rfl)
theorem dX8_fits_6 : decode cX8_fits 6 = .ok (.iload_n 1, 1) := dk_27 (dk_at dksX8_fits_0 6 rfl rfl)
theorem dX8_fits_7 : decode cX8_fits 7 = .ok (.iconst 1, 1) := dk_4 (dk_at dksX8_fits_0 7 rfl rfl)
theorem dX8_fits_8 : decode cX8_fits 8 = .ok (.invokevirtual 390, 3) := dk_182 1 134 (dk_at dksX8_fits_0 8 rfl rfl)
theorem dX8_fits_11 : decode cX8_fits 11 = .ok (.ifCond .eq 18, 3) := dk_153 0 18 (dk_at dksX8_fits_0 11 rfl rfl)
theorem dX8_fits_14 : decode cX8_fits 14 = .ok (.aload_n 0, 1) := dk_42 (dk_at dksX8_fits_0 14 rfl rfl)
theorem dX8_fits_15 : decode cX8_fits 15 = .ok (.iload_n 2, 1) := dk_28 (dk_at dksX8_fits_0 15 rfl rfl)
theorem dX8_fits_16 : decode cX8_fits 16 = .ok (.iconst 0, 1) := dk_3 (dk_at dksX8_fits_0 16 rfl rfl)
theorem dX8_fits_17 : decode cX8_fits 17 = .ok (.iconst 1, 1) := dk_4 (dk_at dksX8_fits_0 17 rfl rfl)
theorem dX8_fits_18 : decode cX8_fits 18 = .ok (.invokestatic 378, 3) := dk_184 1 122 (dk_at dksX8_fits_0 18 rfl rfl)
theorem dX8_fits_21 : decode cX8_fits 21 = .ok (.iconst 2, 1) := dk_5 (dk_at dksX8_fits_0 21 rfl rfl)
theorem dX8_fits_22 : decode cX8_fits 22 = .ok (.iconst 1, 1) := dk_4 (dk_at dksX8_fits_0 22 rfl rfl)
theorem dX8_fits_23 : decode cX8_fits 23 = .ok (.invokevirtual 216, 3) := dk_182 0 216 (dk_at dksX8_fits_1 0 rfl rfl)
theorem dX8_fits_26 : decode cX8_fits 26 = .ok (.ifCond .ne 5, 3) := dk_154 0 5 (dk_at dksX8_fits_1 3 rfl rfl)
theorem dX8_fits_29 : decode cX8_fits 29 = .ok (.iconst 0, 1) := dk_3 (dk_at dksX8_fits_1 6 rfl rfl)
theorem dX8_fits_30 : decode cX8_fits 30 = .ok (.ireturn, 1) := dk_172 (dk_at dksX8_fits_1 7 rfl rfl)
theorem dX8_fits_31 : decode cX8_fits 31 = .ok (.aload_n 0, 1) := dk_42 (dk_at dksX8_fits_1 8 rfl rfl)
theorem dX8_fits_32 : decode cX8_fits 32 = .ok (.iload_n 1, 1) := dk_27 (dk_at dksX8_fits_1 9 rfl rfl)
theorem dX8_fits_33 : decode cX8_fits 33 = .ok (.invokevirtual 417, 3) := dk_182 1 161 (dk_at dksX8_fits_1 10 rfl rfl)
theorem dX8_fits_36 : decode cX8_fits 36 = .ok (.iconst 0, 1) := dk_3 (dk_at dksX8_fits_1 13 rfl rfl)
theorem dX8_fits_37 : decode cX8_fits 37 = .ok (.istore_n 3, 1) := dk_62 (dk_at dksX8_fits_1 14 rfl rfl)
theorem dX8_fits_38 : decode cX8_fits 38 = .ok (.iconst (-1), 1) := dk_2 (dk_at dksX8_fits_1 15 rfl rfl)
theorem dX8_fits_39 : decode cX8_fits 39 = .ok (.istore 4, 2) := dk_54 4 (dk_at dksX8_fits_1 16 rfl rfl)
theorem dX8_fits_41 : decode cX8_fits 41 = .ok (.iconst 0, 1) := dk_3 (dk_at dksX8_fits_1 18 rfl rfl)
theorem dX8_fits_42 : decode cX8_fits 42 = .ok (.istore 5, 2) := dk_54 5 (dk_at dksX8_fits_1 19 rfl rfl)
theorem dX8_fits_44 : decode cX8_fits 44 = .ok (.iload 5, 2) := dk_21 5 (dk_at dksX8_fits_1 21 rfl rfl)
theorem dX8_fits_46 : decode cX8_fits 46 = .ok (.bipush 100, 2) := dk_16 100 (dk_at dksX8_fits_2 0 rfl rfl)
theorem dX8_fits_48 : decode cX8_fits 48 = .ok (.if_icmp .ge 40, 3) := dk_162 0 40 (dk_at dksX8_fits_2 2 rfl rfl)
theorem dX8_fits_51 : decode cX8_fits 51 = .ok (.aload_n 0, 1) := dk_42 (dk_at dksX8_fits_2 5 rfl rfl)
theorem dX8_fits_52 : decode cX8_fits 52 = .ok (.getfield 104, 3) := dk_180 0 104 (dk_at dksX8_fits_2 6 rfl rfl)
theorem dX8_fits_55 : decode cX8_fits 55 = .ok (.iload 5, 2) := dk_21 5 (dk_at dksX8_fits_2 9 rfl rfl)
theorem dX8_fits_57 : decode cX8_fits 57 = .ok (.baload, 1) := dk_51 (dk_at dksX8_fits_2 11 rfl rfl)
theorem dX8_fits_58 : decode cX8_fits 58 = .ok (.ifCond .ne 6, 3) := dk_154 0 6 (dk_at dksX8_fits_2 12 rfl rfl)
theorem dX8_fits_61 : decode cX8_fits 61 = .ok (.goto 21, 3) := dk_167 0 21 (dk_at dksX8_fits_2 15 rfl rfl)
theorem dX8_fits_64 : decode cX8_fits 64 = .ok (.iinc 3 1, 3) := dk_132 3 1 (dk_at dksX8_fits_2 18 rfl rfl)
theorem dX8_fits_67 : decode cX8_fits 67 = .ok (.iload 4, 2) := dk_21 4 (dk_at dksX8_fits_2 21 rfl rfl)
theorem dX8_fits_69 : decode cX8_fits 69 = .ok (.iconst (-1), 1) := dk_2 (dk_at dksX8_fits_2 23 rfl rfl)
theorem dX8_fits_70 : decode cX8_fits 70 = .ok (.if_icmp .ne 8, 3) := dk_160 0 8 (dk_at dksX8_fits_3 0 rfl rfl)
theorem dX8_fits_73 : decode cX8_fits 73 = .ok (.iload 5, 2) := dk_21 5 (dk_at dksX8_fits_3 3 rfl rfl)
theorem dX8_fits_75 : decode cX8_fits 75 = .ok (.goto 5, 3) := dk_167 0 5 (dk_at dksX8_fits_3 5 rfl rfl)
theorem dX8_fits_78 : decode cX8_fits 78 = .ok (.iload 4, 2) := dk_21 4 (dk_at dksX8_fits_3 8 rfl rfl)
theorem dX8_fits_80 : decode cX8_fits 80 = .ok (.istore 4, 2) := dk_54 4 (dk_at dksX8_fits_3 10 rfl rfl)
theorem dX8_fits_82 : decode cX8_fits 82 = .ok (.iinc 5 1, 3) := dk_132 5 1 (dk_at dksX8_fits_3 12 rfl rfl)
theorem dX8_fits_85 : decode cX8_fits 85 = .ok (.goto (-41), 3) := dk_167 255 215 (dk_at dksX8_fits_3 15 rfl rfl)
theorem dX8_fits_88 : decode cX8_fits 88 = .ok (.iload_n 2, 1) := dk_28 (dk_at dksX8_fits_3 18 rfl rfl)
theorem dX8_fits_89 : decode cX8_fits 89 = .ok (.ifCond .ne 7, 3) := dk_154 0 7 (dk_at dksX8_fits_3 19 rfl rfl)
theorem dX8_fits_92 : decode cX8_fits 92 = .ok (.iload_n 3, 1) := dk_29 (dk_at dksX8_fits_3 22 rfl rfl)
theorem dX8_fits_93 : decode cX8_fits 93 = .ok (.goto 5, 3) := dk_167 0 5 (dk_at dksX8_fits_4 0 rfl rfl)
theorem dX8_fits_96 : decode cX8_fits 96 = .ok (.iload 4, 2) := dk_21 4 (dk_at dksX8_fits_4 3 rfl rfl)
theorem dX8_fits_98 : decode cX8_fits 98 = .ok (.ireturn, 1) := dk_172 (dk_at dksX8_fits_4 5 rfl rfl)
abbrev cX8_findPairs : ByteArray := prog_24_method_84_code
def yX8_findPairs : MethodName := ⟨RX8, "findPairs", "(I)V"⟩
def dkwX8_findPairs_5 : List UInt8 := [132, 3, 1, 167, 255, 177, 42, 2, 181, 0, 83, 132, 2, 1, 167, 255, 126, 177]
abbrev dktX8_findPairs_5 : List UInt8 := dkwX8_findPairs_5 ++ []
def dkwX8_findPairs_4 : List UInt8 := [180, 0, 89, 29, 46, 42, 180, 0, 74, 3, 27, 96, 46, 160, 0, 7, 4, 167, 0, 4, 3, 84]
abbrev dktX8_findPairs_4 : List UInt8 := dkwX8_findPairs_4 ++ dktX8_findPairs_5
def dkwX8_findPairs_3 : List UInt8 := [180, 0, 104, 28, 42, 180, 0, 104, 28, 51, 153, 0, 34, 42, 180, 0, 89, 29, 46, 2, 159, 0, 20, 42]
abbrev dktX8_findPairs_3 : List UInt8 := dkwX8_findPairs_3 ++ dktX8_findPairs_4
def dkwX8_findPairs_2 : List UInt8 := [42, 182, 1, 119, 42, 180, 0, 101, 16, 13, 28, 104, 29, 96, 42, 180, 0, 74, 3, 27, 96, 46, 79, 42]
abbrev dktX8_findPairs_2 : List UInt8 := dkwX8_findPairs_2 ++ dktX8_findPairs_3
def dkwX8_findPairs_1 : List UInt8 := [79, 42, 28, 16, 10, 112, 181, 0, 83, 42, 180, 0, 104, 28, 4, 84, 4, 62, 29, 16, 12, 163, 0, 79]
abbrev dktX8_findPairs_1 : List UInt8 := dkwX8_findPairs_1 ++ dktX8_findPairs_2
def dkwX8_findPairs_0 : List UInt8 := [3, 61, 28, 16, 100, 162, 0, 130, 42, 182, 1, 59, 42, 180, 0, 74, 16, 7, 27, 96, 28, 16, 10, 108]
abbrev dktX8_findPairs_0 : List UInt8 := dkwX8_findPairs_0 ++ dktX8_findPairs_1
theorem dksX8_findPairs_0 : cX8_findPairs.data.toList.drop 0 = dktX8_findPairs_0 := by decide +kernel
theorem dksX8_findPairs_1 : cX8_findPairs.data.toList.drop 24 = dktX8_findPairs_1 := dk_seg dksX8_findPairs_0 24 rfl rfl
theorem dksX8_findPairs_2 : cX8_findPairs.data.toList.drop 48 = dktX8_findPairs_2 := dk_seg dksX8_findPairs_1 24 rfl rfl
theorem dksX8_findPairs_3 : cX8_findPairs.data.toList.drop 72 = dktX8_findPairs_3 := dk_seg dksX8_findPairs_2 24 rfl rfl
theorem dksX8_findPairs_4 : cX8_findPairs.data.toList.drop 96 = dktX8_findPairs_4 := dk_seg dksX8_findPairs_3 24 rfl rfl
theorem dksX8_findPairs_5 : cX8_findPairs.data.toList.drop 118 = dktX8_findPairs_5 := dk_seg dksX8_findPairs_4 22 rfl rfl
theorem dX8_findPairs_0 : decode cX8_findPairs 0 = .ok (.iconst 0, 1) := dk_3 (dk_at dksX8_findPairs_0 0 rfl rfl)
theorem dX8_findPairs_1 : decode cX8_findPairs 1 = .ok (.istore_n 2, 1) := dk_61 (dk_at dksX8_findPairs_0 1 rfl rfl)
theorem dX8_findPairs_2 : decode cX8_findPairs 2 = .ok (.iload_n 2, 1) := dk_28 (dk_at dksX8_findPairs_0 2 rfl rfl)
theorem dX8_findPairs_3 : decode cX8_findPairs 3 = .ok (.bipush 100, 2) := dk_16 100 (dk_at dksX8_findPairs_0 3 rfl rfl)
theorem dX8_findPairs_5 : decode cX8_findPairs 5 = .ok (.if_icmp .ge 130, 3) := dk_162 0 130 (dk_at dksX8_findPairs_0 5 rfl rfl)
theorem dX8_findPairs_8 : decode cX8_findPairs 8 = .ok (.aload_n 0, 1) := dk_42 (dk_at dksX8_findPairs_0 8 rfl rfl)
theorem dX8_findPairs_9 : decode cX8_findPairs 9 = .ok (.invokevirtual 315, 3) := dk_182 1 59 (dk_at dksX8_findPairs_0 9 rfl rfl)
theorem dX8_findPairs_12 : decode cX8_findPairs 12 = .ok (.aload_n 0, 1) := dk_42 (dk_at dksX8_findPairs_0 12 rfl rfl)
theorem dX8_findPairs_13 : decode cX8_findPairs 13 = .ok (.getfield 74, 3) := dk_180 0 74 (dk_at dksX8_findPairs_0 13 rfl rfl)
theorem dX8_findPairs_16 : decode cX8_findPairs 16 = .ok (.bipush 7, 2) := dk_16 7 (dk_at dksX8_findPairs_0 16 rfl rfl)
theorem dX8_findPairs_18 : decode cX8_findPairs 18 = .ok (.iload_n 1, 1) := dk_27 (dk_at dksX8_findPairs_0 18 rfl rfl)
theorem dX8_findPairs_19 : decode cX8_findPairs 19 = .ok (.iadd, 1) := dk_96 (dk_at dksX8_findPairs_0 19 rfl rfl)
theorem dX8_findPairs_20 : decode cX8_findPairs 20 = .ok (.iload_n 2, 1) := dk_28 (dk_at dksX8_findPairs_0 20 rfl rfl)
theorem dX8_findPairs_21 : decode cX8_findPairs 21 = .ok (.bipush 10, 2) := dk_16 10 (dk_at dksX8_findPairs_0 21 rfl rfl)
theorem dX8_findPairs_23 : decode cX8_findPairs 23 = .ok (.idiv, 1) := dk_108 (dk_at dksX8_findPairs_0 23 rfl rfl)
theorem dX8_findPairs_24 : decode cX8_findPairs 24 = .ok (.iastore, 1) := dk_79 (dk_at dksX8_findPairs_1 0 rfl rfl)
theorem dX8_findPairs_25 : decode cX8_findPairs 25 = .ok (.aload_n 0, 1) := dk_42 (dk_at dksX8_findPairs_1 1 rfl rfl)
theorem dX8_findPairs_26 : decode cX8_findPairs 26 = .ok (.iload_n 2, 1) := dk_28 (dk_at dksX8_findPairs_1 2 rfl rfl)
theorem dX8_findPairs_27 : decode cX8_findPairs 27 = .ok (.bipush 10, 2) := dk_16 10 (dk_at dksX8_findPairs_1 3 rfl rfl)
theorem dX8_findPairs_29 : decode cX8_findPairs 29 = .ok (.irem, 1) := dk_112 (dk_at dksX8_findPairs_1 5 rfl rfl)
theorem dX8_findPairs_30 : decode cX8_findPairs 30 = .ok (.putfield 83, 3) := dk_181 0 83 (dk_at dksX8_findPairs_1 6 rfl rfl)
theorem dX8_findPairs_33 : decode cX8_findPairs 33 = .ok (.aload_n 0, 1) := dk_42 (dk_at dksX8_findPairs_1 9 rfl rfl)
theorem dX8_findPairs_34 : decode cX8_findPairs 34 = .ok (.getfield 104, 3) := dk_180 0 104 (dk_at dksX8_findPairs_1 10 rfl rfl)
theorem dX8_findPairs_37 : decode cX8_findPairs 37 = .ok (.iload_n 2, 1) := dk_28 (dk_at dksX8_findPairs_1 13 rfl rfl)
theorem dX8_findPairs_38 : decode cX8_findPairs 38 = .ok (.iconst 1, 1) := dk_4 (dk_at dksX8_findPairs_1 14 rfl rfl)
theorem dX8_findPairs_39 : decode cX8_findPairs 39 = .ok (.bastore, 1) := dk_84 (dk_at dksX8_findPairs_1 15 rfl rfl)
theorem dX8_findPairs_40 : decode cX8_findPairs 40 = .ok (.iconst 1, 1) := dk_4 (dk_at dksX8_findPairs_1 16 rfl rfl)
theorem dX8_findPairs_41 : decode cX8_findPairs 41 = .ok (.istore_n 3, 1) := dk_62 (dk_at dksX8_findPairs_1 17 rfl rfl)
theorem dX8_findPairs_42 : decode cX8_findPairs 42 = .ok (.iload_n 3, 1) := dk_29 (dk_at dksX8_findPairs_1 18 rfl rfl)
theorem dX8_findPairs_43 : decode cX8_findPairs 43 = .ok (.bipush 12, 2) := dk_16 12 (dk_at dksX8_findPairs_1 19 rfl rfl)
theorem dX8_findPairs_45 : decode cX8_findPairs 45 = .ok (.if_icmp .gt 79, 3) := dk_163 0 79 (dk_at dksX8_findPairs_1 21 rfl rfl)
theorem dX8_findPairs_48 : decode cX8_findPairs 48 = .ok (.aload_n 0, 1) := dk_42 (dk_at dksX8_findPairs_2 0 rfl rfl)
theorem dX8_findPairs_49 : decode cX8_findPairs 49 = .ok (.invokevirtual 375, 3) := dk_182 1 119 (dk_at dksX8_findPairs_2 1 rfl rfl)
theorem dX8_findPairs_52 : decode cX8_findPairs 52 = .ok (.aload_n 0, 1) := dk_42 (dk_at dksX8_findPairs_2 4 rfl rfl)
theorem dX8_findPairs_53 : decode cX8_findPairs 53 = .ok (.getfield 101, 3) := dk_180 0 101 (dk_at dksX8_findPairs_2 5 rfl rfl)
theorem dX8_findPairs_56 : decode cX8_findPairs 56 = .ok (.bipush 13, 2) := dk_16 13 (dk_at dksX8_findPairs_2 8 rfl rfl)
theorem dX8_findPairs_58 : decode cX8_findPairs 58 = .ok (.iload_n 2, 1) := dk_28 (dk_at dksX8_findPairs_2 10 rfl rfl)
theorem dX8_findPairs_59 : decode cX8_findPairs 59 = .ok (.imul, 1) := dk_104 (dk_at dksX8_findPairs_2 11 rfl rfl)
theorem dX8_findPairs_60 : decode cX8_findPairs 60 = .ok (.iload_n 3, 1) := dk_29 (dk_at dksX8_findPairs_2 12 rfl rfl)
theorem dX8_findPairs_61 : decode cX8_findPairs 61 = .ok (.iadd, 1) := dk_96 (dk_at dksX8_findPairs_2 13 rfl rfl)
theorem dX8_findPairs_62 : decode cX8_findPairs 62 = .ok (.aload_n 0, 1) := dk_42 (dk_at dksX8_findPairs_2 14 rfl rfl)
theorem dX8_findPairs_63 : decode cX8_findPairs 63 = .ok (.getfield 74, 3) := dk_180 0 74 (dk_at dksX8_findPairs_2 15 rfl rfl)
theorem dX8_findPairs_66 : decode cX8_findPairs 66 = .ok (.iconst 0, 1) := dk_3 (dk_at dksX8_findPairs_2 18 rfl rfl)
theorem dX8_findPairs_67 : decode cX8_findPairs 67 = .ok (.iload_n 1, 1) := dk_27 (dk_at dksX8_findPairs_2 19 rfl rfl)
theorem dX8_findPairs_68 : decode cX8_findPairs 68 = .ok (.iadd, 1) := dk_96 (dk_at dksX8_findPairs_2 20 rfl rfl)
theorem dX8_findPairs_69 : decode cX8_findPairs 69 = .ok (.iaload, 1) := dk_46 (dk_at dksX8_findPairs_2 21 rfl rfl)
theorem dX8_findPairs_70 : decode cX8_findPairs 70 = .ok (.iastore, 1) := dk_79 (dk_at dksX8_findPairs_2 22 rfl rfl)
theorem dX8_findPairs_71 : decode cX8_findPairs 71 = .ok (.aload_n 0, 1) := dk_42 (dk_at dksX8_findPairs_2 23 rfl rfl)
theorem dX8_findPairs_72 : decode cX8_findPairs 72 = .ok (.getfield 104, 3) := dk_180 0 104 (dk_at dksX8_findPairs_3 0 rfl rfl)
theorem dX8_findPairs_75 : decode cX8_findPairs 75 = .ok (.iload_n 2, 1) := dk_28 (dk_at dksX8_findPairs_3 3 rfl rfl)
theorem dX8_findPairs_76 : decode cX8_findPairs 76 = .ok (.aload_n 0, 1) := dk_42 (dk_at dksX8_findPairs_3 4 rfl rfl)
theorem dX8_findPairs_77 : decode cX8_findPairs 77 = .ok (.getfield 104, 3) := dk_180 0 104 (dk_at dksX8_findPairs_3 5 rfl rfl)
theorem dX8_findPairs_80 : decode cX8_findPairs 80 = .ok (.iload_n 2, 1) := dk_28 (dk_at dksX8_findPairs_3 8 rfl rfl)
theorem dX8_findPairs_81 : decode cX8_findPairs 81 = .ok (.baload, 1) := dk_51 (dk_at dksX8_findPairs_3 9 rfl rfl)
theorem dX8_findPairs_82 : decode cX8_findPairs 82 = .ok (.ifCond .eq 34, 3) := dk_153 0 34 (dk_at dksX8_findPairs_3 10 rfl rfl)
theorem dX8_findPairs_85 : decode cX8_findPairs 85 = .ok (.aload_n 0, 1) := dk_42 (dk_at dksX8_findPairs_3 13 rfl rfl)
theorem dX8_findPairs_86 : decode cX8_findPairs 86 = .ok (.getfield 89, 3) := dk_180 0 89 (dk_at dksX8_findPairs_3 14 rfl rfl)
theorem dX8_findPairs_89 : decode cX8_findPairs 89 = .ok (.iload_n 3, 1) := dk_29 (dk_at dksX8_findPairs_3 17 rfl rfl)
theorem dX8_findPairs_90 : decode cX8_findPairs 90 = .ok (.iaload, 1) := dk_46 (dk_at dksX8_findPairs_3 18 rfl rfl)
theorem dX8_findPairs_91 : decode cX8_findPairs 91 = .ok (.iconst (-1), 1) := dk_2 (dk_at dksX8_findPairs_3 19 rfl rfl)
theorem dX8_findPairs_92 : decode cX8_findPairs 92 = .ok (.if_icmp .eq 20, 3) := dk_159 0 20 (dk_at dksX8_findPairs_3 20 rfl rfl)
theorem dX8_findPairs_95 : decode cX8_findPairs 95 = .ok (.aload_n 0, 1) := dk_42 (dk_at dksX8_findPairs_3 23 rfl rfl)
theorem dX8_findPairs_96 : decode cX8_findPairs 96 = .ok (.getfield 89, 3) := dk_180 0 89 (dk_at dksX8_findPairs_4 0 rfl rfl)
theorem dX8_findPairs_99 : decode cX8_findPairs 99 = .ok (.iload_n 3, 1) := dk_29 (dk_at dksX8_findPairs_4 3 rfl rfl)
theorem dX8_findPairs_100 : decode cX8_findPairs 100 = .ok (.iaload, 1) := dk_46 (dk_at dksX8_findPairs_4 4 rfl rfl)
theorem dX8_findPairs_101 : decode cX8_findPairs 101 = .ok (.aload_n 0, 1) := dk_42 (dk_at dksX8_findPairs_4 5 rfl rfl)
theorem dX8_findPairs_102 : decode cX8_findPairs 102 = .ok (.getfield 74, 3) := dk_180 0 74 (dk_at dksX8_findPairs_4 6 rfl rfl)
theorem dX8_findPairs_105 : decode cX8_findPairs 105 = .ok (.iconst 0, 1) := dk_3 (dk_at dksX8_findPairs_4 9 rfl rfl)
theorem dX8_findPairs_106 : decode cX8_findPairs 106 = .ok (.iload_n 1, 1) := dk_27 (dk_at dksX8_findPairs_4 10 rfl rfl)
theorem dX8_findPairs_107 : decode cX8_findPairs 107 = .ok (.iadd, 1) := dk_96 (dk_at dksX8_findPairs_4 11 rfl rfl)
theorem dX8_findPairs_108 : decode cX8_findPairs 108 = .ok (.iaload, 1) := dk_46 (dk_at dksX8_findPairs_4 12 rfl rfl)
theorem dX8_findPairs_109 : decode cX8_findPairs 109 = .ok (.if_icmp .ne 7, 3) := dk_160 0 7 (dk_at dksX8_findPairs_4 13 rfl rfl)
theorem dX8_findPairs_112 : decode cX8_findPairs 112 = .ok (.iconst 1, 1) := dk_4 (dk_at dksX8_findPairs_4 16 rfl rfl)
theorem dX8_findPairs_113 : decode cX8_findPairs 113 = .ok (.goto 4, 3) := dk_167 0 4 (dk_at dksX8_findPairs_4 17 rfl rfl)
theorem dX8_findPairs_116 : decode cX8_findPairs 116 = .ok (.iconst 0, 1) := dk_3 (dk_at dksX8_findPairs_4 20 rfl rfl)
theorem dX8_findPairs_117 : decode cX8_findPairs 117 = .ok (.bastore, 1) := dk_84 (dk_at dksX8_findPairs_4 21 rfl rfl)
theorem dX8_findPairs_118 : decode cX8_findPairs 118 = .ok (.iinc 3 1, 3) := dk_132 3 1 (dk_at dksX8_findPairs_5 0 rfl rfl)
theorem dX8_findPairs_121 : decode cX8_findPairs 121 = .ok (.goto (-79), 3) := dk_167 255 177 (dk_at dksX8_findPairs_5 3 rfl rfl)
theorem dX8_findPairs_124 : decode cX8_findPairs 124 = .ok (.aload_n 0, 1) := dk_42 (dk_at dksX8_findPairs_5 6 rfl rfl)
theorem dX8_findPairs_125 : decode cX8_findPairs 125 = .ok (.iconst (-1), 1) := dk_2 (dk_at dksX8_findPairs_5 7 rfl rfl)
theorem dX8_findPairs_126 : decode cX8_findPairs 126 = .ok (.putfield 83, 3) := dk_181 0 83 (dk_at dksX8_findPairs_5 8 rfl rfl)
theorem dX8_findPairs_129 : decode cX8_findPairs 129 = .ok (.iinc 2 1, 3) := dk_132 2 1 (dk_at dksX8_findPairs_5 11 rfl rfl)
theorem dX8_findPairs_132 : decode cX8_findPairs 132 = .ok (.goto (-130), 3) := dk_167 255 126 (dk_at dksX8_findPairs_5 14 rfl rfl)
theorem dX8_findPairs_135 : decode cX8_findPairs 135 = .ok (.return_, 1) := dk_177 (dk_at dksX8_findPairs_5 17 rfl rfl)
abbrev cX8_look : ByteArray := prog_24_method_86_code
def yX8_look : MethodName := ⟨RX8, "look", "(II)I"⟩
def dkwX8_look_9 : List UInt8 := [21, 4, 172]
abbrev dktX8_look_9 : List UInt8 := dkwX8_look_9 ++ []
def dkwX8_look_8 : List UInt8 := [167, 0, 10, 21, 5, 62, 21, 6, 54, 4, 132, 5, 1, 167, 255, 101, 28, 154, 0, 7, 29, 167, 0, 5]
abbrev dktX8_look_8 : List UInt8 := dkwX8_look_8 ++ dktX8_look_9
def dkwX8_look_7 : List UInt8 := [21, 6, 54, 6, 132, 7, 1, 167, 255, 181, 29, 2, 159, 0, 13, 21, 6, 21, 4, 161, 0, 6]
abbrev dktX8_look_7 : List UInt8 := dkwX8_look_7 ++ dktX8_look_8
def dkwX8_look_6 : List UInt8 := [79, 42, 180, 0, 108, 21, 8, 46, 21, 6, 164, 0, 13, 42, 180, 0, 108, 21, 8, 46, 167, 0, 5]
abbrev dktX8_look_6 : List UInt8 := dkwX8_look_6 ++ dktX8_look_7
def dkwX8_look_5 : List UInt8 := [180, 0, 101, 16, 13, 21, 7, 104, 21, 5, 96, 46, 54, 8, 42, 180, 0, 108, 21, 8, 92, 46, 4, 96]
abbrev dktX8_look_5 : List UInt8 := dkwX8_look_5 ++ dktX8_look_6
def dkwX8_look_4 : List UInt8 := [54, 7, 21, 7, 16, 100, 162, 0, 74, 42, 180, 0, 104, 21, 7, 51, 154, 0, 6, 167, 0, 55, 42]
abbrev dktX8_look_4 : List UInt8 := dkwX8_look_4 ++ dktX8_look_5
def dkwX8_look_3 : List UInt8 := [17, 3, 231, 163, 0, 17, 42, 180, 0, 108, 21, 6, 3, 79, 132, 6, 1, 167, 255, 237, 3, 54, 6, 3]
abbrev dktX8_look_3 : List UInt8 := dkwX8_look_3 ++ dktX8_look_4
def dkwX8_look_2 : List UInt8 := [16, 12, 163, 0, 154, 42, 180, 0, 89, 21, 5, 46, 2, 159, 0, 6, 167, 0, 134, 3, 54, 6, 21, 6]
abbrev dktX8_look_2 : List UInt8 := dkwX8_look_2 ++ dktX8_look_3
def dkwX8_look_1 : List UInt8 := [182, 0, 216, 154, 0, 5, 3, 172, 42, 27, 182, 1, 161, 2, 62, 2, 54, 4, 4, 54, 5, 21, 5]
abbrev dktX8_look_1 : List UInt8 := dkwX8_look_1 ++ dktX8_look_2
def dkwX8_look_0 : List UInt8 := [42, 3, 181, 0, 3, 42, 27, 4, 182, 1, 134, 153, 0, 18, 42, 28, 3, 4, 184, 1, 122, 5, 4]
abbrev dktX8_look_0 : List UInt8 := dkwX8_look_0 ++ dktX8_look_1
theorem dksX8_look_0 : cX8_look.data.toList.drop 0 = dktX8_look_0 := by decide +kernel
theorem dksX8_look_1 : cX8_look.data.toList.drop 23 = dktX8_look_1 := dk_seg dksX8_look_0 23 rfl rfl
theorem dksX8_look_2 : cX8_look.data.toList.drop 46 = dktX8_look_2 := dk_seg dksX8_look_1 23 rfl rfl
theorem dksX8_look_3 : cX8_look.data.toList.drop 70 = dktX8_look_3 := dk_seg dksX8_look_2 24 rfl rfl
theorem dksX8_look_4 : cX8_look.data.toList.drop 94 = dktX8_look_4 := dk_seg dksX8_look_3 24 rfl rfl
theorem dksX8_look_5 : cX8_look.data.toList.drop 117 = dktX8_look_5 := dk_seg dksX8_look_4 23 rfl rfl
theorem dksX8_look_6 : cX8_look.data.toList.drop 141 = dktX8_look_6 := dk_seg dksX8_look_5 24 rfl rfl
theorem dksX8_look_7 : cX8_look.data.toList.drop 164 = dktX8_look_7 := dk_seg dksX8_look_6 23 rfl rfl
theorem dksX8_look_8 : cX8_look.data.toList.drop 186 = dktX8_look_8 := dk_seg dksX8_look_7 22 rfl rfl
theorem dksX8_look_9 : cX8_look.data.toList.drop 210 = dktX8_look_9 := dk_seg dksX8_look_8 24 rfl rfl
theorem dX8_look_0 : decode cX8_look 0 = .ok (.aload_n 0, 1) := dk_42 (dk_at dksX8_look_0 0 rfl rfl)
theorem dX8_look_1 : decode cX8_look 1 = .ok (.iconst 0, 1) := dk_3 (dk_at dksX8_look_0 1 rfl rfl)
theorem dX8_look_2 : decode cX8_look 2 = .ok (.putfield 3, 3) := dk_181 0 3 (dk_at dksX8_look_0 2 rfl rfl)
theorem dX8_look_5 : decode cX8_look 5 = .ok (.aload_n 0, 1) := dk_42 (dk_at dksX8_look_0 5 rfl rfl)
theorem dX8_look_6 : decode cX8_look 6 = .ok (.iload_n 1, 1) := dk_27 (dk_at dksX8_look_0 6 rfl rfl)
theorem dX8_look_7 : decode cX8_look 7 = .ok (.iconst 1, 1) := dk_4 (dk_at dksX8_look_0 7 rfl rfl)
theorem dX8_look_8 : decode cX8_look 8 = .ok (.invokevirtual 390, 3) := dk_182 1 134 (dk_at dksX8_look_0 8 rfl rfl)
theorem dX8_look_11 : decode cX8_look 11 = .ok (.ifCond .eq 18, 3) := dk_153 0 18 (dk_at dksX8_look_0 11 rfl rfl)
theorem dX8_look_14 : decode cX8_look 14 = .ok (.aload_n 0, 1) := dk_42 (dk_at dksX8_look_0 14 rfl rfl)
theorem dX8_look_15 : decode cX8_look 15 = .ok (.iload_n 2, 1) := dk_28 (dk_at dksX8_look_0 15 rfl rfl)
theorem dX8_look_16 : decode cX8_look 16 = .ok (.iconst 0, 1) := dk_3 (dk_at dksX8_look_0 16 rfl rfl)
theorem dX8_look_17 : decode cX8_look 17 = .ok (.iconst 1, 1) := dk_4 (dk_at dksX8_look_0 17 rfl rfl)
theorem dX8_look_18 : decode cX8_look 18 = .ok (.invokestatic 378, 3) := dk_184 1 122 (dk_at dksX8_look_0 18 rfl rfl)
theorem dX8_look_21 : decode cX8_look 21 = .ok (.iconst 2, 1) := dk_5 (dk_at dksX8_look_0 21 rfl rfl)
theorem dX8_look_22 : decode cX8_look 22 = .ok (.iconst 1, 1) := dk_4 (dk_at dksX8_look_0 22 rfl rfl)
theorem dX8_look_23 : decode cX8_look 23 = .ok (.invokevirtual 216, 3) := dk_182 0 216 (dk_at dksX8_look_1 0 rfl rfl)
theorem dX8_look_26 : decode cX8_look 26 = .ok (.ifCond .ne 5, 3) := dk_154 0 5 (dk_at dksX8_look_1 3 rfl rfl)
theorem dX8_look_29 : decode cX8_look 29 = .ok (.iconst 0, 1) := dk_3 (dk_at dksX8_look_1 6 rfl rfl)
theorem dX8_look_30 : decode cX8_look 30 = .ok (.ireturn, 1) := dk_172 (dk_at dksX8_look_1 7 rfl rfl)
theorem dX8_look_31 : decode cX8_look 31 = .ok (.aload_n 0, 1) := dk_42 (dk_at dksX8_look_1 8 rfl rfl)
theorem dX8_look_32 : decode cX8_look 32 = .ok (.iload_n 1, 1) := dk_27 (dk_at dksX8_look_1 9 rfl rfl)
theorem dX8_look_33 : decode cX8_look 33 = .ok (.invokevirtual 417, 3) := dk_182 1 161 (dk_at dksX8_look_1 10 rfl rfl)
theorem dX8_look_36 : decode cX8_look 36 = .ok (.iconst (-1), 1) := dk_2 (dk_at dksX8_look_1 13 rfl rfl)
theorem dX8_look_37 : decode cX8_look 37 = .ok (.istore_n 3, 1) := dk_62 (dk_at dksX8_look_1 14 rfl rfl)
theorem dX8_look_38 : decode cX8_look 38 = .ok (.iconst (-1), 1) := dk_2 (dk_at dksX8_look_1 15 rfl rfl)
theorem dX8_look_39 : decode cX8_look 39 = .ok (.istore 4, 2) := dk_54 4 (dk_at dksX8_look_1 16 rfl rfl)
theorem dX8_look_41 : decode cX8_look 41 = .ok (.iconst 1, 1) := dk_4 (dk_at dksX8_look_1 18 rfl rfl)
theorem dX8_look_42 : decode cX8_look 42 = .ok (.istore 5, 2) := dk_54 5 (dk_at dksX8_look_1 19 rfl rfl)
theorem dX8_look_44 : decode cX8_look 44 = .ok (.iload 5, 2) := dk_21 5 (dk_at dksX8_look_1 21 rfl rfl)
theorem dX8_look_46 : decode cX8_look 46 = .ok (.bipush 12, 2) := dk_16 12 (dk_at dksX8_look_2 0 rfl rfl)
theorem dX8_look_48 : decode cX8_look 48 = .ok (.if_icmp .gt 154, 3) := dk_163 0 154 (dk_at dksX8_look_2 2 rfl rfl)
theorem dX8_look_51 : decode cX8_look 51 = .ok (.aload_n 0, 1) := dk_42 (dk_at dksX8_look_2 5 rfl rfl)
theorem dX8_look_52 : decode cX8_look 52 = .ok (.getfield 89, 3) := dk_180 0 89 (dk_at dksX8_look_2 6 rfl rfl)
theorem dX8_look_55 : decode cX8_look 55 = .ok (.iload 5, 2) := dk_21 5 (dk_at dksX8_look_2 9 rfl rfl)
theorem dX8_look_57 : decode cX8_look 57 = .ok (.iaload, 1) := dk_46 (dk_at dksX8_look_2 11 rfl rfl)
theorem dX8_look_58 : decode cX8_look 58 = .ok (.iconst (-1), 1) := dk_2 (dk_at dksX8_look_2 12 rfl rfl)
theorem dX8_look_59 : decode cX8_look 59 = .ok (.if_icmp .eq 6, 3) := dk_159 0 6 (dk_at dksX8_look_2 13 rfl rfl)
theorem dX8_look_62 : decode cX8_look 62 = .ok (.goto 134, 3) := dk_167 0 134 (dk_at dksX8_look_2 16 rfl rfl)
theorem dX8_look_65 : decode cX8_look 65 = .ok (.iconst 0, 1) := dk_3 (dk_at dksX8_look_2 19 rfl rfl)
theorem dX8_look_66 : decode cX8_look 66 = .ok (.istore 6, 2) := dk_54 6 (dk_at dksX8_look_2 20 rfl rfl)
theorem dX8_look_68 : decode cX8_look 68 = .ok (.iload 6, 2) := dk_21 6 (dk_at dksX8_look_2 22 rfl rfl)
theorem dX8_look_70 : decode cX8_look 70 = .ok (.sipush 999, 3) := dk_17 3 231 (dk_at dksX8_look_3 0 rfl rfl)
theorem dX8_look_73 : decode cX8_look 73 = .ok (.if_icmp .gt 17, 3) := dk_163 0 17 (dk_at dksX8_look_3 3 rfl rfl)
theorem dX8_look_76 : decode cX8_look 76 = .ok (.aload_n 0, 1) := dk_42 (dk_at dksX8_look_3 6 rfl rfl)
theorem dX8_look_77 : decode cX8_look 77 = .ok (.getfield 108, 3) := dk_180 0 108 (dk_at dksX8_look_3 7 rfl rfl)
theorem dX8_look_80 : decode cX8_look 80 = .ok (.iload 6, 2) := dk_21 6 (dk_at dksX8_look_3 10 rfl rfl)
theorem dX8_look_82 : decode cX8_look 82 = .ok (.iconst 0, 1) := dk_3 (dk_at dksX8_look_3 12 rfl rfl)
theorem dX8_look_83 : decode cX8_look 83 = .ok (.iastore, 1) := dk_79 (dk_at dksX8_look_3 13 rfl rfl)
theorem dX8_look_84 : decode cX8_look 84 = .ok (.iinc 6 1, 3) := dk_132 6 1 (dk_at dksX8_look_3 14 rfl rfl)
theorem dX8_look_87 : decode cX8_look 87 = .ok (.goto (-19), 3) := dk_167 255 237 (dk_at dksX8_look_3 17 rfl rfl)
theorem dX8_look_90 : decode cX8_look 90 = .ok (.iconst 0, 1) := dk_3 (dk_at dksX8_look_3 20 rfl rfl)
theorem dX8_look_91 : decode cX8_look 91 = .ok (.istore 6, 2) := dk_54 6 (dk_at dksX8_look_3 21 rfl rfl)
theorem dX8_look_93 : decode cX8_look 93 = .ok (.iconst 0, 1) := dk_3 (dk_at dksX8_look_3 23 rfl rfl)
theorem dX8_look_94 : decode cX8_look 94 = .ok (.istore 7, 2) := dk_54 7 (dk_at dksX8_look_4 0 rfl rfl)
theorem dX8_look_96 : decode cX8_look 96 = .ok (.iload 7, 2) := dk_21 7 (dk_at dksX8_look_4 2 rfl rfl)
theorem dX8_look_98 : decode cX8_look 98 = .ok (.bipush 100, 2) := dk_16 100 (dk_at dksX8_look_4 4 rfl rfl)
theorem dX8_look_100 : decode cX8_look 100 = .ok (.if_icmp .ge 74, 3) := dk_162 0 74 (dk_at dksX8_look_4 6 rfl rfl)
theorem dX8_look_103 : decode cX8_look 103 = .ok (.aload_n 0, 1) := dk_42 (dk_at dksX8_look_4 9 rfl rfl)
theorem dX8_look_104 : decode cX8_look 104 = .ok (.getfield 104, 3) := dk_180 0 104 (dk_at dksX8_look_4 10 rfl rfl)
theorem dX8_look_107 : decode cX8_look 107 = .ok (.iload 7, 2) := dk_21 7 (dk_at dksX8_look_4 13 rfl rfl)
theorem dX8_look_109 : decode cX8_look 109 = .ok (.baload, 1) := dk_51 (dk_at dksX8_look_4 15 rfl rfl)
theorem dX8_look_110 : decode cX8_look 110 = .ok (.ifCond .ne 6, 3) := dk_154 0 6 (dk_at dksX8_look_4 16 rfl rfl)
theorem dX8_look_113 : decode cX8_look 113 = .ok (.goto 55, 3) := dk_167 0 55 (dk_at dksX8_look_4 19 rfl rfl)
theorem dX8_look_116 : decode cX8_look 116 = .ok (.aload_n 0, 1) := dk_42 (dk_at dksX8_look_4 22 rfl rfl)
theorem dX8_look_117 : decode cX8_look 117 = .ok (.getfield 101, 3) := dk_180 0 101 (dk_at dksX8_look_5 0 rfl rfl)
theorem dX8_look_120 : decode cX8_look 120 = .ok (.bipush 13, 2) := dk_16 13 (dk_at dksX8_look_5 3 rfl rfl)
theorem dX8_look_122 : decode cX8_look 122 = .ok (.iload 7, 2) := dk_21 7 (dk_at dksX8_look_5 5 rfl rfl)
theorem dX8_look_124 : decode cX8_look 124 = .ok (.imul, 1) := dk_104 (dk_at dksX8_look_5 7 rfl rfl)
theorem dX8_look_125 : decode cX8_look 125 = .ok (.iload 5, 2) := dk_21 5 (dk_at dksX8_look_5 8 rfl rfl)
theorem dX8_look_127 : decode cX8_look 127 = .ok (.iadd, 1) := dk_96 (dk_at dksX8_look_5 10 rfl rfl)
theorem dX8_look_128 : decode cX8_look 128 = .ok (.iaload, 1) := dk_46 (dk_at dksX8_look_5 11 rfl rfl)
theorem dX8_look_129 : decode cX8_look 129 = .ok (.istore 8, 2) := dk_54 8 (dk_at dksX8_look_5 12 rfl rfl)
theorem dX8_look_131 : decode cX8_look 131 = .ok (.aload_n 0, 1) := dk_42 (dk_at dksX8_look_5 14 rfl rfl)
theorem dX8_look_132 : decode cX8_look 132 = .ok (.getfield 108, 3) := dk_180 0 108 (dk_at dksX8_look_5 15 rfl rfl)
theorem dX8_look_135 : decode cX8_look 135 = .ok (.iload 8, 2) := dk_21 8 (dk_at dksX8_look_5 18 rfl rfl)
theorem dX8_look_137 : decode cX8_look 137 = .ok (.dup2, 1) := dk_92 (dk_at dksX8_look_5 20 rfl rfl)
theorem dX8_look_138 : decode cX8_look 138 = .ok (.iaload, 1) := dk_46 (dk_at dksX8_look_5 21 rfl rfl)
theorem dX8_look_139 : decode cX8_look 139 = .ok (.iconst 1, 1) := dk_4 (dk_at dksX8_look_5 22 rfl rfl)
theorem dX8_look_140 : decode cX8_look 140 = .ok (.iadd, 1) := dk_96 (dk_at dksX8_look_5 23 rfl rfl)
theorem dX8_look_141 : decode cX8_look 141 = .ok (.iastore, 1) := dk_79 (dk_at dksX8_look_6 0 rfl rfl)
theorem dX8_look_142 : decode cX8_look 142 = .ok (.aload_n 0, 1) := dk_42 (dk_at dksX8_look_6 1 rfl rfl)
theorem dX8_look_143 : decode cX8_look 143 = .ok (.getfield 108, 3) := dk_180 0 108 (dk_at dksX8_look_6 2 rfl rfl)
theorem dX8_look_146 : decode cX8_look 146 = .ok (.iload 8, 2) := dk_21 8 (dk_at dksX8_look_6 5 rfl rfl)
theorem dX8_look_148 : decode cX8_look 148 = .ok (.iaload, 1) := dk_46 (dk_at dksX8_look_6 7 rfl rfl)
theorem dX8_look_149 : decode cX8_look 149 = .ok (.iload 6, 2) := dk_21 6 (dk_at dksX8_look_6 8 rfl rfl)
theorem dX8_look_151 : decode cX8_look 151 = .ok (.if_icmp .le 13, 3) := dk_164 0 13 (dk_at dksX8_look_6 10 rfl rfl)
theorem dX8_look_154 : decode cX8_look 154 = .ok (.aload_n 0, 1) := dk_42 (dk_at dksX8_look_6 13 rfl rfl)
theorem dX8_look_155 : decode cX8_look 155 = .ok (.getfield 108, 3) := dk_180 0 108 (dk_at dksX8_look_6 14 rfl rfl)
theorem dX8_look_158 : decode cX8_look 158 = .ok (.iload 8, 2) := dk_21 8 (dk_at dksX8_look_6 17 rfl rfl)
theorem dX8_look_160 : decode cX8_look 160 = .ok (.iaload, 1) := dk_46 (dk_at dksX8_look_6 19 rfl rfl)
theorem dX8_look_161 : decode cX8_look 161 = .ok (.goto 5, 3) := dk_167 0 5 (dk_at dksX8_look_6 20 rfl rfl)
theorem dX8_look_164 : decode cX8_look 164 = .ok (.iload 6, 2) := dk_21 6 (dk_at dksX8_look_7 0 rfl rfl)
theorem dX8_look_166 : decode cX8_look 166 = .ok (.istore 6, 2) := dk_54 6 (dk_at dksX8_look_7 2 rfl rfl)
theorem dX8_look_168 : decode cX8_look 168 = .ok (.iinc 7 1, 3) := dk_132 7 1 (dk_at dksX8_look_7 4 rfl rfl)
theorem dX8_look_171 : decode cX8_look 171 = .ok (.goto (-75), 3) := dk_167 255 181 (dk_at dksX8_look_7 7 rfl rfl)
theorem dX8_look_174 : decode cX8_look 174 = .ok (.iload_n 3, 1) := dk_29 (dk_at dksX8_look_7 10 rfl rfl)
theorem dX8_look_175 : decode cX8_look 175 = .ok (.iconst (-1), 1) := dk_2 (dk_at dksX8_look_7 11 rfl rfl)
theorem dX8_look_176 : decode cX8_look 176 = .ok (.if_icmp .eq 13, 3) := dk_159 0 13 (dk_at dksX8_look_7 12 rfl rfl)
theorem dX8_look_179 : decode cX8_look 179 = .ok (.iload 6, 2) := dk_21 6 (dk_at dksX8_look_7 15 rfl rfl)
theorem dX8_look_181 : decode cX8_look 181 = .ok (.iload 4, 2) := dk_21 4 (dk_at dksX8_look_7 17 rfl rfl)
theorem dX8_look_183 : decode cX8_look 183 = .ok (.if_icmp .lt 6, 3) := dk_161 0 6 (dk_at dksX8_look_7 19 rfl rfl)
theorem dX8_look_186 : decode cX8_look 186 = .ok (.goto 10, 3) := dk_167 0 10 (dk_at dksX8_look_8 0 rfl rfl)
theorem dX8_look_189 : decode cX8_look 189 = .ok (.iload 5, 2) := dk_21 5 (dk_at dksX8_look_8 3 rfl rfl)
theorem dX8_look_191 : decode cX8_look 191 = .ok (.istore_n 3, 1) := dk_62 (dk_at dksX8_look_8 5 rfl rfl)
theorem dX8_look_192 : decode cX8_look 192 = .ok (.iload 6, 2) := dk_21 6 (dk_at dksX8_look_8 6 rfl rfl)
theorem dX8_look_194 : decode cX8_look 194 = .ok (.istore 4, 2) := dk_54 4 (dk_at dksX8_look_8 8 rfl rfl)
theorem dX8_look_196 : decode cX8_look 196 = .ok (.iinc 5 1, 3) := dk_132 5 1 (dk_at dksX8_look_8 10 rfl rfl)
theorem dX8_look_199 : decode cX8_look 199 = .ok (.goto (-155), 3) := dk_167 255 101 (dk_at dksX8_look_8 13 rfl rfl)
theorem dX8_look_202 : decode cX8_look 202 = .ok (.iload_n 2, 1) := dk_28 (dk_at dksX8_look_8 16 rfl rfl)
theorem dX8_look_203 : decode cX8_look 203 = .ok (.ifCond .ne 7, 3) := dk_154 0 7 (dk_at dksX8_look_8 17 rfl rfl)
theorem dX8_look_206 : decode cX8_look 206 = .ok (.iload_n 3, 1) := dk_29 (dk_at dksX8_look_8 20 rfl rfl)
theorem dX8_look_207 : decode cX8_look 207 = .ok (.goto 5, 3) := dk_167 0 5 (dk_at dksX8_look_8 21 rfl rfl)
theorem dX8_look_210 : decode cX8_look 210 = .ok (.iload 4, 2) := dk_21 4 (dk_at dksX8_look_9 0 rfl rfl)
theorem dX8_look_212 : decode cX8_look 212 = .ok (.ireturn, 1) := dk_172 (dk_at dksX8_look_9 2 rfl rfl)
abbrev cX8_run : ByteArray := prog_24_method_88_code
def yX8_run : MethodName := ⟨RX8, "run", "(IIII)J"⟩
def dkwX8_run_10 : List UInt8 := [22, 5, 21, 4, 184, 1, 166, 173]
abbrev dktX8_run_10 : List UInt8 := dkwX8_run_10 ++ []
def dkwX8_run_9 : List UInt8 := [22, 8, 80, 22, 5, 20, 1, 164, 105, 55, 5, 132, 7, 1, 167, 255, 128, 42, 180, 0, 111, 28, 47]
abbrev dktX8_run_9 : List UInt8 := dkwX8_run_9 ++ dktX8_run_10
def dkwX8_run_8 : List UInt8 := [180, 0, 111, 21, 10, 4, 100, 47, 29, 133, 105, 80, 132, 10, 255, 167, 255, 229, 42, 180, 0, 111, 3]
abbrev dktX8_run_8 : List UInt8 := dkwX8_run_8 ++ dktX8_run_9
def dkwX8_run_7 : List UInt8 := [100, 47, 29, 133, 105, 97, 80, 28, 4, 100, 54, 10, 21, 10, 158, 0, 28, 42, 180, 0, 111, 21, 10, 42]
abbrev dktX8_run_7 : List UInt8 := dkwX8_run_7 ++ dktX8_run_8
def dkwX8_run_6 : List UInt8 := [167, 255, 229, 42, 180, 0, 111, 28, 20, 1, 164, 42, 180, 0, 111, 28, 47, 105, 42, 180, 0, 111, 28, 4]
abbrev dktX8_run_6 : List UInt8 := dkwX8_run_6 ++ dktX8_run_7
def dkwX8_run_5 : List UInt8 := [162, 0, 27, 22, 8, 42, 180, 0, 111, 21, 10, 47, 16, 16, 29, 100, 133, 105, 97, 55, 8, 132, 10, 1]
abbrev dktX8_run_5 : List UInt8 := dkwX8_run_5 ++ dktX8_run_6
def dkwX8_run_4 : List UInt8 := [55, 5, 3, 54, 7, 21, 7, 27, 162, 0, 128, 28, 158, 0, 124, 9, 55, 8, 3, 54, 10, 21, 10, 28]
abbrev dktX8_run_4 : List UInt8 := dkwX8_run_4 ++ dktX8_run_5
def dkwX8_run_3 : List UInt8 := [42, 180, 0, 111, 21, 5, 21, 5, 154, 0, 7, 10, 167, 0, 4, 9, 80, 132, 5, 1, 167, 255, 229, 10]
abbrev dktX8_run_3 : List UInt8 := dkwX8_run_3 ++ dktX8_run_4
def dkwX8_run_2 : List UInt8 := [167, 0, 4, 3, 4, 4, 182, 0, 216, 154, 0, 5, 9, 173, 3, 54, 5, 21, 5, 16, 14, 162, 0, 26]
abbrev dktX8_run_2 : List UInt8 := dkwX8_run_2 ++ dktX8_run_3
def dkwX8_run_1 : List UInt8 := [153, 0, 27, 29, 3, 16, 16, 184, 1, 122, 153, 0, 17, 21, 4, 3, 4, 184, 1, 122, 153, 0, 7, 4]
abbrev dktX8_run_1 : List UInt8 := dkwX8_run_1 ++ dktX8_run_2
def dkwX8_run_0 : List UInt8 := [42, 3, 181, 0, 3, 42, 27, 3, 16, 12, 184, 1, 122, 153, 0, 37, 28, 3, 16, 12, 184, 1, 122]
abbrev dktX8_run_0 : List UInt8 := dkwX8_run_0 ++ dktX8_run_1
theorem dksX8_run_0 : cX8_run.data.toList.drop 0 = dktX8_run_0 := by decide +kernel
theorem dksX8_run_1 : cX8_run.data.toList.drop 23 = dktX8_run_1 := dk_seg dksX8_run_0 23 rfl rfl
theorem dksX8_run_2 : cX8_run.data.toList.drop 47 = dktX8_run_2 := dk_seg dksX8_run_1 24 rfl rfl
theorem dksX8_run_3 : cX8_run.data.toList.drop 71 = dktX8_run_3 := dk_seg dksX8_run_2 24 rfl rfl
theorem dksX8_run_4 : cX8_run.data.toList.drop 95 = dktX8_run_4 := dk_seg dksX8_run_3 24 rfl rfl
theorem dksX8_run_5 : cX8_run.data.toList.drop 119 = dktX8_run_5 := dk_seg dksX8_run_4 24 rfl rfl
theorem dksX8_run_6 : cX8_run.data.toList.drop 143 = dktX8_run_6 := dk_seg dksX8_run_5 24 rfl rfl
theorem dksX8_run_7 : cX8_run.data.toList.drop 167 = dktX8_run_7 := dk_seg dksX8_run_6 24 rfl rfl
theorem dksX8_run_8 : cX8_run.data.toList.drop 191 = dktX8_run_8 := dk_seg dksX8_run_7 24 rfl rfl
theorem dksX8_run_9 : cX8_run.data.toList.drop 214 = dktX8_run_9 := dk_seg dksX8_run_8 23 rfl rfl
theorem dksX8_run_10 : cX8_run.data.toList.drop 237 = dktX8_run_10 := dk_seg dksX8_run_9 23 rfl rfl
theorem dX8_run_0 : decode cX8_run 0 = .ok (.aload_n 0, 1) := dk_42 (dk_at dksX8_run_0 0 rfl rfl)
theorem dX8_run_1 : decode cX8_run 1 = .ok (.iconst 0, 1) := dk_3 (dk_at dksX8_run_0 1 rfl rfl)
theorem dX8_run_2 : decode cX8_run 2 = .ok (.putfield 3, 3) := dk_181 0 3 (dk_at dksX8_run_0 2 rfl rfl)
theorem dX8_run_5 : decode cX8_run 5 = .ok (.aload_n 0, 1) := dk_42 (dk_at dksX8_run_0 5 rfl rfl)
theorem dX8_run_6 : decode cX8_run 6 = .ok (.iload_n 1, 1) := dk_27 (dk_at dksX8_run_0 6 rfl rfl)
theorem dX8_run_7 : decode cX8_run 7 = .ok (.iconst 0, 1) := dk_3 (dk_at dksX8_run_0 7 rfl rfl)
theorem dX8_run_8 : decode cX8_run 8 = .ok (.bipush 12, 2) := dk_16 12 (dk_at dksX8_run_0 8 rfl rfl)
theorem dX8_run_10 : decode cX8_run 10 = .ok (.invokestatic 378, 3) := dk_184 1 122 (dk_at dksX8_run_0 10 rfl rfl)
theorem dX8_run_13 : decode cX8_run 13 = .ok (.ifCond .eq 37, 3) := dk_153 0 37 (dk_at dksX8_run_0 13 rfl rfl)
theorem dX8_run_16 : decode cX8_run 16 = .ok (.iload_n 2, 1) := dk_28 (dk_at dksX8_run_0 16 rfl rfl)
theorem dX8_run_17 : decode cX8_run 17 = .ok (.iconst 0, 1) := dk_3 (dk_at dksX8_run_0 17 rfl rfl)
theorem dX8_run_18 : decode cX8_run 18 = .ok (.bipush 12, 2) := dk_16 12 (dk_at dksX8_run_0 18 rfl rfl)
theorem dX8_run_20 : decode cX8_run 20 = .ok (.invokestatic 378, 3) := dk_184 1 122 (dk_at dksX8_run_0 20 rfl rfl)
theorem dX8_run_23 : decode cX8_run 23 = .ok (.ifCond .eq 27, 3) := dk_153 0 27 (dk_at dksX8_run_1 0 rfl rfl)
theorem dX8_run_26 : decode cX8_run 26 = .ok (.iload_n 3, 1) := dk_29 (dk_at dksX8_run_1 3 rfl rfl)
theorem dX8_run_27 : decode cX8_run 27 = .ok (.iconst 0, 1) := dk_3 (dk_at dksX8_run_1 4 rfl rfl)
theorem dX8_run_28 : decode cX8_run 28 = .ok (.bipush 16, 2) := dk_16 16 (dk_at dksX8_run_1 5 rfl rfl)
theorem dX8_run_30 : decode cX8_run 30 = .ok (.invokestatic 378, 3) := dk_184 1 122 (dk_at dksX8_run_1 7 rfl rfl)
theorem dX8_run_33 : decode cX8_run 33 = .ok (.ifCond .eq 17, 3) := dk_153 0 17 (dk_at dksX8_run_1 10 rfl rfl)
theorem dX8_run_36 : decode cX8_run 36 = .ok (.iload 4, 2) := dk_21 4 (dk_at dksX8_run_1 13 rfl rfl)
theorem dX8_run_38 : decode cX8_run 38 = .ok (.iconst 0, 1) := dk_3 (dk_at dksX8_run_1 15 rfl rfl)
theorem dX8_run_39 : decode cX8_run 39 = .ok (.iconst 1, 1) := dk_4 (dk_at dksX8_run_1 16 rfl rfl)
theorem dX8_run_40 : decode cX8_run 40 = .ok (.invokestatic 378, 3) := dk_184 1 122 (dk_at dksX8_run_1 17 rfl rfl)
theorem dX8_run_43 : decode cX8_run 43 = .ok (.ifCond .eq 7, 3) := dk_153 0 7 (dk_at dksX8_run_1 20 rfl rfl)
theorem dX8_run_46 : decode cX8_run 46 = .ok (.iconst 1, 1) := dk_4 (dk_at dksX8_run_1 23 rfl rfl)
theorem dX8_run_47 : decode cX8_run 47 = .ok (.goto 4, 3) := dk_167 0 4 (dk_at dksX8_run_2 0 rfl rfl)
theorem dX8_run_50 : decode cX8_run 50 = .ok (.iconst 0, 1) := dk_3 (dk_at dksX8_run_2 3 rfl rfl)
theorem dX8_run_51 : decode cX8_run 51 = .ok (.iconst 1, 1) := dk_4 (dk_at dksX8_run_2 4 rfl rfl)
theorem dX8_run_52 : decode cX8_run 52 = .ok (.iconst 1, 1) := dk_4 (dk_at dksX8_run_2 5 rfl rfl)
theorem dX8_run_53 : decode cX8_run 53 = .ok (.invokevirtual 216, 3) := dk_182 0 216 (dk_at dksX8_run_2 6 rfl rfl)
theorem dX8_run_56 : decode cX8_run 56 = .ok (.ifCond .ne 5, 3) := dk_154 0 5 (dk_at dksX8_run_2 9 rfl rfl)
theorem dX8_run_59 : decode cX8_run 59 = .ok (.lconst 0, 1) := dk_9 (dk_at dksX8_run_2 12 rfl rfl)
theorem dX8_run_60 : decode cX8_run 60 = .ok (.lreturn, 1) := dk_173 (dk_at dksX8_run_2 13 rfl rfl)
theorem dX8_run_61 : decode cX8_run 61 = .ok (.iconst 0, 1) := dk_3 (dk_at dksX8_run_2 14 rfl rfl)
theorem dX8_run_62 : decode cX8_run 62 = .ok (.istore 5, 2) := dk_54 5 (dk_at dksX8_run_2 15 rfl rfl)
theorem dX8_run_64 : decode cX8_run 64 = .ok (.iload 5, 2) := dk_21 5 (dk_at dksX8_run_2 17 rfl rfl)
theorem dX8_run_66 : decode cX8_run 66 = .ok (.bipush 14, 2) := dk_16 14 (dk_at dksX8_run_2 19 rfl rfl)
theorem dX8_run_68 : decode cX8_run 68 = .ok (.if_icmp .ge 26, 3) := dk_162 0 26 (dk_at dksX8_run_2 21 rfl rfl)
theorem dX8_run_71 : decode cX8_run 71 = .ok (.aload_n 0, 1) := dk_42 (dk_at dksX8_run_3 0 rfl rfl)
theorem dX8_run_72 : decode cX8_run 72 = .ok (.getfield 111, 3) := dk_180 0 111 (dk_at dksX8_run_3 1 rfl rfl)
theorem dX8_run_75 : decode cX8_run 75 = .ok (.iload 5, 2) := dk_21 5 (dk_at dksX8_run_3 4 rfl rfl)
theorem dX8_run_77 : decode cX8_run 77 = .ok (.iload 5, 2) := dk_21 5 (dk_at dksX8_run_3 6 rfl rfl)
theorem dX8_run_79 : decode cX8_run 79 = .ok (.ifCond .ne 7, 3) := dk_154 0 7 (dk_at dksX8_run_3 8 rfl rfl)
theorem dX8_run_82 : decode cX8_run 82 = .ok (.lconst 1, 1) := dk_10 (dk_at dksX8_run_3 11 rfl rfl)
theorem dX8_run_83 : decode cX8_run 83 = .ok (.goto 4, 3) := dk_167 0 4 (dk_at dksX8_run_3 12 rfl rfl)
theorem dX8_run_86 : decode cX8_run 86 = .ok (.lconst 0, 1) := dk_9 (dk_at dksX8_run_3 15 rfl rfl)
theorem dX8_run_87 : decode cX8_run 87 = .ok (.lastore, 1) := dk_80 (dk_at dksX8_run_3 16 rfl rfl)
theorem dX8_run_88 : decode cX8_run 88 = .ok (.iinc 5 1, 3) := dk_132 5 1 (dk_at dksX8_run_3 17 rfl rfl)
theorem dX8_run_91 : decode cX8_run 91 = .ok (.goto (-27), 3) := dk_167 255 229 (dk_at dksX8_run_3 20 rfl rfl)
theorem dX8_run_94 : decode cX8_run 94 = .ok (.lconst 1, 1) := dk_10 (dk_at dksX8_run_3 23 rfl rfl)
theorem dX8_run_95 : decode cX8_run 95 = .ok (.lstore 5, 2) := dk_55 5 (dk_at dksX8_run_4 0 rfl rfl)
theorem dX8_run_97 : decode cX8_run 97 = .ok (.iconst 0, 1) := dk_3 (dk_at dksX8_run_4 2 rfl rfl)
theorem dX8_run_98 : decode cX8_run 98 = .ok (.istore 7, 2) := dk_54 7 (dk_at dksX8_run_4 3 rfl rfl)
theorem dX8_run_100 : decode cX8_run 100 = .ok (.iload 7, 2) := dk_21 7 (dk_at dksX8_run_4 5 rfl rfl)
theorem dX8_run_102 : decode cX8_run 102 = .ok (.iload_n 1, 1) := dk_27 (dk_at dksX8_run_4 7 rfl rfl)
theorem dX8_run_103 : decode cX8_run 103 = .ok (.if_icmp .ge 128, 3) := dk_162 0 128 (dk_at dksX8_run_4 8 rfl rfl)
theorem dX8_run_106 : decode cX8_run 106 = .ok (.iload_n 2, 1) := dk_28 (dk_at dksX8_run_4 11 rfl rfl)
theorem dX8_run_107 : decode cX8_run 107 = .ok (.ifCond .le 124, 3) := dk_158 0 124 (dk_at dksX8_run_4 12 rfl rfl)
theorem dX8_run_110 : decode cX8_run 110 = .ok (.lconst 0, 1) := dk_9 (dk_at dksX8_run_4 15 rfl rfl)
theorem dX8_run_111 : decode cX8_run 111 = .ok (.lstore 8, 2) := dk_55 8 (dk_at dksX8_run_4 16 rfl rfl)
theorem dX8_run_113 : decode cX8_run 113 = .ok (.iconst 0, 1) := dk_3 (dk_at dksX8_run_4 18 rfl rfl)
theorem dX8_run_114 : decode cX8_run 114 = .ok (.istore 10, 2) := dk_54 10 (dk_at dksX8_run_4 19 rfl rfl)
theorem dX8_run_116 : decode cX8_run 116 = .ok (.iload 10, 2) := dk_21 10 (dk_at dksX8_run_4 21 rfl rfl)
theorem dX8_run_118 : decode cX8_run 118 = .ok (.iload_n 2, 1) := dk_28 (dk_at dksX8_run_4 23 rfl rfl)
theorem dX8_run_119 : decode cX8_run 119 = .ok (.if_icmp .ge 27, 3) := dk_162 0 27 (dk_at dksX8_run_5 0 rfl rfl)
theorem dX8_run_122 : decode cX8_run 122 = .ok (.lload 8, 2) := dk_22 8 (dk_at dksX8_run_5 3 rfl rfl)
theorem dX8_run_124 : decode cX8_run 124 = .ok (.aload_n 0, 1) := dk_42 (dk_at dksX8_run_5 5 rfl rfl)
theorem dX8_run_125 : decode cX8_run 125 = .ok (.getfield 111, 3) := dk_180 0 111 (dk_at dksX8_run_5 6 rfl rfl)
theorem dX8_run_128 : decode cX8_run 128 = .ok (.iload 10, 2) := dk_21 10 (dk_at dksX8_run_5 9 rfl rfl)
theorem dX8_run_130 : decode cX8_run 130 = .ok (.laload, 1) := dk_47 (dk_at dksX8_run_5 11 rfl rfl)
theorem dX8_run_131 : decode cX8_run 131 = .ok (.bipush 16, 2) := dk_16 16 (dk_at dksX8_run_5 12 rfl rfl)
theorem dX8_run_133 : decode cX8_run 133 = .ok (.iload_n 3, 1) := dk_29 (dk_at dksX8_run_5 14 rfl rfl)
theorem dX8_run_134 : decode cX8_run 134 = .ok (.isub, 1) := dk_100 (dk_at dksX8_run_5 15 rfl rfl)
theorem dX8_run_135 : decode cX8_run 135 = .ok (.i2l, 1) := dk_133 (dk_at dksX8_run_5 16 rfl rfl)
theorem dX8_run_136 : decode cX8_run 136 = .ok (.lmul, 1) := dk_105 (dk_at dksX8_run_5 17 rfl rfl)
theorem dX8_run_137 : decode cX8_run 137 = .ok (.ladd, 1) := dk_97 (dk_at dksX8_run_5 18 rfl rfl)
theorem dX8_run_138 : decode cX8_run 138 = .ok (.lstore 8, 2) := dk_55 8 (dk_at dksX8_run_5 19 rfl rfl)
theorem dX8_run_140 : decode cX8_run 140 = .ok (.iinc 10 1, 3) := dk_132 10 1 (dk_at dksX8_run_5 21 rfl rfl)
theorem dX8_run_143 : decode cX8_run 143 = .ok (.goto (-27), 3) := dk_167 255 229 (dk_at dksX8_run_6 0 rfl rfl)
theorem dX8_run_146 : decode cX8_run 146 = .ok (.aload_n 0, 1) := dk_42 (dk_at dksX8_run_6 3 rfl rfl)
theorem dX8_run_147 : decode cX8_run 147 = .ok (.getfield 111, 3) := dk_180 0 111 (dk_at dksX8_run_6 4 rfl rfl)
theorem dX8_run_150 : decode cX8_run 150 = .ok (.iload_n 2, 1) := dk_28 (dk_at dksX8_run_6 7 rfl rfl)
theorem dX8_run_151 : decode cX8_run 151 = .ok (.ldc2_w 420, 3) := dk_20 1 164 (dk_at dksX8_run_6 8 rfl rfl)
theorem dX8_run_154 : decode cX8_run 154 = .ok (.aload_n 0, 1) := dk_42 (dk_at dksX8_run_6 11 rfl rfl)
theorem dX8_run_155 : decode cX8_run 155 = .ok (.getfield 111, 3) := dk_180 0 111 (dk_at dksX8_run_6 12 rfl rfl)
theorem dX8_run_158 : decode cX8_run 158 = .ok (.iload_n 2, 1) := dk_28 (dk_at dksX8_run_6 15 rfl rfl)
theorem dX8_run_159 : decode cX8_run 159 = .ok (.laload, 1) := dk_47 (dk_at dksX8_run_6 16 rfl rfl)
theorem dX8_run_160 : decode cX8_run 160 = .ok (.lmul, 1) := dk_105 (dk_at dksX8_run_6 17 rfl rfl)
theorem dX8_run_161 : decode cX8_run 161 = .ok (.aload_n 0, 1) := dk_42 (dk_at dksX8_run_6 18 rfl rfl)
theorem dX8_run_162 : decode cX8_run 162 = .ok (.getfield 111, 3) := dk_180 0 111 (dk_at dksX8_run_6 19 rfl rfl)
theorem dX8_run_165 : decode cX8_run 165 = .ok (.iload_n 2, 1) := dk_28 (dk_at dksX8_run_6 22 rfl rfl)
theorem dX8_run_166 : decode cX8_run 166 = .ok (.iconst 1, 1) := dk_4 (dk_at dksX8_run_6 23 rfl rfl)
theorem dX8_run_167 : decode cX8_run 167 = .ok (.isub, 1) := dk_100 (dk_at dksX8_run_7 0 rfl rfl)
theorem dX8_run_168 : decode cX8_run 168 = .ok (.laload, 1) := dk_47 (dk_at dksX8_run_7 1 rfl rfl)
theorem dX8_run_169 : decode cX8_run 169 = .ok (.iload_n 3, 1) := dk_29 (dk_at dksX8_run_7 2 rfl rfl)
theorem dX8_run_170 : decode cX8_run 170 = .ok (.i2l, 1) := dk_133 (dk_at dksX8_run_7 3 rfl rfl)
theorem dX8_run_171 : decode cX8_run 171 = .ok (.lmul, 1) := dk_105 (dk_at dksX8_run_7 4 rfl rfl)
theorem dX8_run_172 : decode cX8_run 172 = .ok (.ladd, 1) := dk_97 (dk_at dksX8_run_7 5 rfl rfl)
theorem dX8_run_173 : decode cX8_run 173 = .ok (.lastore, 1) := dk_80 (dk_at dksX8_run_7 6 rfl rfl)
theorem dX8_run_174 : decode cX8_run 174 = .ok (.iload_n 2, 1) := dk_28 (dk_at dksX8_run_7 7 rfl rfl)
theorem dX8_run_175 : decode cX8_run 175 = .ok (.iconst 1, 1) := dk_4 (dk_at dksX8_run_7 8 rfl rfl)
theorem dX8_run_176 : decode cX8_run 176 = .ok (.isub, 1) := dk_100 (dk_at dksX8_run_7 9 rfl rfl)
theorem dX8_run_177 : decode cX8_run 177 = .ok (.istore 10, 2) := dk_54 10 (dk_at dksX8_run_7 10 rfl rfl)
theorem dX8_run_179 : decode cX8_run 179 = .ok (.iload 10, 2) := dk_21 10 (dk_at dksX8_run_7 12 rfl rfl)
theorem dX8_run_181 : decode cX8_run 181 = .ok (.ifCond .le 28, 3) := dk_158 0 28 (dk_at dksX8_run_7 14 rfl rfl)
theorem dX8_run_184 : decode cX8_run 184 = .ok (.aload_n 0, 1) := dk_42 (dk_at dksX8_run_7 17 rfl rfl)
theorem dX8_run_185 : decode cX8_run 185 = .ok (.getfield 111, 3) := dk_180 0 111 (dk_at dksX8_run_7 18 rfl rfl)
theorem dX8_run_188 : decode cX8_run 188 = .ok (.iload 10, 2) := dk_21 10 (dk_at dksX8_run_7 21 rfl rfl)
theorem dX8_run_190 : decode cX8_run 190 = .ok (.aload_n 0, 1) := dk_42 (dk_at dksX8_run_7 23 rfl rfl)
theorem dX8_run_191 : decode cX8_run 191 = .ok (.getfield 111, 3) := dk_180 0 111 (dk_at dksX8_run_8 0 rfl rfl)
theorem dX8_run_194 : decode cX8_run 194 = .ok (.iload 10, 2) := dk_21 10 (dk_at dksX8_run_8 3 rfl rfl)
theorem dX8_run_196 : decode cX8_run 196 = .ok (.iconst 1, 1) := dk_4 (dk_at dksX8_run_8 5 rfl rfl)
theorem dX8_run_197 : decode cX8_run 197 = .ok (.isub, 1) := dk_100 (dk_at dksX8_run_8 6 rfl rfl)
theorem dX8_run_198 : decode cX8_run 198 = .ok (.laload, 1) := dk_47 (dk_at dksX8_run_8 7 rfl rfl)
theorem dX8_run_199 : decode cX8_run 199 = .ok (.iload_n 3, 1) := dk_29 (dk_at dksX8_run_8 8 rfl rfl)
theorem dX8_run_200 : decode cX8_run 200 = .ok (.i2l, 1) := dk_133 (dk_at dksX8_run_8 9 rfl rfl)
theorem dX8_run_201 : decode cX8_run 201 = .ok (.lmul, 1) := dk_105 (dk_at dksX8_run_8 10 rfl rfl)
theorem dX8_run_202 : decode cX8_run 202 = .ok (.lastore, 1) := dk_80 (dk_at dksX8_run_8 11 rfl rfl)
theorem dX8_run_203 : decode cX8_run 203 = .ok (.iinc 10 (-1), 3) := dk_132 10 255 (dk_at dksX8_run_8 12 rfl rfl)
theorem dX8_run_206 : decode cX8_run 206 = .ok (.goto (-27), 3) := dk_167 255 229 (dk_at dksX8_run_8 15 rfl rfl)
theorem dX8_run_209 : decode cX8_run 209 = .ok (.aload_n 0, 1) := dk_42 (dk_at dksX8_run_8 18 rfl rfl)
theorem dX8_run_210 : decode cX8_run 210 = .ok (.getfield 111, 3) := dk_180 0 111 (dk_at dksX8_run_8 19 rfl rfl)
theorem dX8_run_213 : decode cX8_run 213 = .ok (.iconst 0, 1) := dk_3 (dk_at dksX8_run_8 22 rfl rfl)
theorem dX8_run_214 : decode cX8_run 214 = .ok (.lload 8, 2) := dk_22 8 (dk_at dksX8_run_9 0 rfl rfl)
theorem dX8_run_216 : decode cX8_run 216 = .ok (.lastore, 1) := dk_80 (dk_at dksX8_run_9 2 rfl rfl)
theorem dX8_run_217 : decode cX8_run 217 = .ok (.lload 5, 2) := dk_22 5 (dk_at dksX8_run_9 3 rfl rfl)
theorem dX8_run_219 : decode cX8_run 219 = .ok (.ldc2_w 420, 3) := dk_20 1 164 (dk_at dksX8_run_9 5 rfl rfl)
theorem dX8_run_222 : decode cX8_run 222 = .ok (.lmul, 1) := dk_105 (dk_at dksX8_run_9 8 rfl rfl)
theorem dX8_run_223 : decode cX8_run 223 = .ok (.lstore 5, 2) := dk_55 5 (dk_at dksX8_run_9 9 rfl rfl)
theorem dX8_run_225 : decode cX8_run 225 = .ok (.iinc 7 1, 3) := dk_132 7 1 (dk_at dksX8_run_9 11 rfl rfl)
theorem dX8_run_228 : decode cX8_run 228 = .ok (.goto (-128), 3) := dk_167 255 128 (dk_at dksX8_run_9 14 rfl rfl)
theorem dX8_run_231 : decode cX8_run 231 = .ok (.aload_n 0, 1) := dk_42 (dk_at dksX8_run_9 17 rfl rfl)
theorem dX8_run_232 : decode cX8_run 232 = .ok (.getfield 111, 3) := dk_180 0 111 (dk_at dksX8_run_9 18 rfl rfl)
theorem dX8_run_235 : decode cX8_run 235 = .ok (.iload_n 2, 1) := dk_28 (dk_at dksX8_run_9 21 rfl rfl)
theorem dX8_run_236 : decode cX8_run 236 = .ok (.laload, 1) := dk_47 (dk_at dksX8_run_9 22 rfl rfl)
theorem dX8_run_237 : decode cX8_run 237 = .ok (.lload 5, 2) := dk_22 5 (dk_at dksX8_run_10 0 rfl rfl)
theorem dX8_run_239 : decode cX8_run 239 = .ok (.iload 4, 2) := dk_21 4 (dk_at dksX8_run_10 2 rfl rfl)
theorem dX8_run_241 : decode cX8_run 241 = .ok (.invokestatic 422, 3) := dk_184 1 166 (dk_at dksX8_run_10 4 rfl rfl)
theorem dX8_run_244 : decode cX8_run 244 = .ok (.lreturn, 1) := dk_173 (dk_at dksX8_run_10 7 rfl rfl)
abbrev cX8_least : ByteArray := prog_24_method_87_code
def yX8_least : MethodName := ⟨RX8, "least", "(JJI)J"⟩
def dkwX8_least_1 : List UInt8 := [22, 9, 55, 7, 167, 255, 234, 21, 4, 154, 0, 7, 30, 167, 0, 4, 32, 22, 5, 109, 173]
abbrev dktX8_least_1 : List UInt8 := dkwX8_least_1 ++ []
def dkwX8_least_0 : List UInt8 := [30, 55, 5, 32, 55, 7, 22, 7, 9, 148, 153, 0, 21, 22, 5, 22, 7, 113, 55, 9, 22, 7, 55, 5]
abbrev dktX8_least_0 : List UInt8 := dkwX8_least_0 ++ dktX8_least_1
theorem dksX8_least_0 : cX8_least.data.toList.drop 0 = dktX8_least_0 := by decide +kernel
theorem dksX8_least_1 : cX8_least.data.toList.drop 24 = dktX8_least_1 := dk_seg dksX8_least_0 24 rfl rfl
theorem dX8_least_0 : decode cX8_least 0 = .ok (.lload_n 0, 1) := dk_30 (dk_at dksX8_least_0 0 rfl rfl)
theorem dX8_least_1 : decode cX8_least 1 = .ok (.lstore 5, 2) := dk_55 5 (dk_at dksX8_least_0 1 rfl rfl)
theorem dX8_least_3 : decode cX8_least 3 = .ok (.lload_n 2, 1) := dk_32 (dk_at dksX8_least_0 3 rfl rfl)
theorem dX8_least_4 : decode cX8_least 4 = .ok (.lstore 7, 2) := dk_55 7 (dk_at dksX8_least_0 4 rfl rfl)
theorem dX8_least_6 : decode cX8_least 6 = .ok (.lload 7, 2) := dk_22 7 (dk_at dksX8_least_0 6 rfl rfl)
theorem dX8_least_8 : decode cX8_least 8 = .ok (.lconst 0, 1) := dk_9 (dk_at dksX8_least_0 8 rfl rfl)
theorem dX8_least_9 : decode cX8_least 9 = .ok (.lcmp, 1) := dk_148 (dk_at dksX8_least_0 9 rfl rfl)
theorem dX8_least_10 : decode cX8_least 10 = .ok (.ifCond .eq 21, 3) := dk_153 0 21 (dk_at dksX8_least_0 10 rfl rfl)
theorem dX8_least_13 : decode cX8_least 13 = .ok (.lload 5, 2) := dk_22 5 (dk_at dksX8_least_0 13 rfl rfl)
theorem dX8_least_15 : decode cX8_least 15 = .ok (.lload 7, 2) := dk_22 7 (dk_at dksX8_least_0 15 rfl rfl)
theorem dX8_least_17 : decode cX8_least 17 = .ok (.lrem, 1) := dk_113 (dk_at dksX8_least_0 17 rfl rfl)
theorem dX8_least_18 : decode cX8_least 18 = .ok (.lstore 9, 2) := dk_55 9 (dk_at dksX8_least_0 18 rfl rfl)
theorem dX8_least_20 : decode cX8_least 20 = .ok (.lload 7, 2) := dk_22 7 (dk_at dksX8_least_0 20 rfl rfl)
theorem dX8_least_22 : decode cX8_least 22 = .ok (.lstore 5, 2) := dk_55 5 (dk_at dksX8_least_0 22 rfl rfl)
theorem dX8_least_24 : decode cX8_least 24 = .ok (.lload 9, 2) := dk_22 9 (dk_at dksX8_least_1 0 rfl rfl)
theorem dX8_least_26 : decode cX8_least 26 = .ok (.lstore 7, 2) := dk_55 7 (dk_at dksX8_least_1 2 rfl rfl)
theorem dX8_least_28 : decode cX8_least 28 = .ok (.goto (-22), 3) := dk_167 255 234 (dk_at dksX8_least_1 4 rfl rfl)
theorem dX8_least_31 : decode cX8_least 31 = .ok (.iload 4, 2) := dk_21 4 (dk_at dksX8_least_1 7 rfl rfl)
theorem dX8_least_33 : decode cX8_least 33 = .ok (.ifCond .ne 7, 3) := dk_154 0 7 (dk_at dksX8_least_1 9 rfl rfl)
theorem dX8_least_36 : decode cX8_least 36 = .ok (.lload_n 0, 1) := dk_30 (dk_at dksX8_least_1 12 rfl rfl)
theorem dX8_least_37 : decode cX8_least 37 = .ok (.goto 4, 3) := dk_167 0 4 (dk_at dksX8_least_1 13 rfl rfl)
theorem dX8_least_40 : decode cX8_least 40 = .ok (.lload_n 2, 1) := dk_32 (dk_at dksX8_least_1 16 rfl rfl)
theorem dX8_least_41 : decode cX8_least 41 = .ok (.lload 5, 2) := dk_22 5 (dk_at dksX8_least_1 17 rfl rfl)
theorem dX8_least_43 : decode cX8_least 43 = .ok (.ldiv, 1) := dk_109 (dk_at dksX8_least_1 19 rfl rfl)
theorem dX8_least_44 : decode cX8_least 44 = .ok (.lreturn, 1) := dk_173 (dk_at dksX8_least_1 20 rfl rfl)
abbrev cX8_planes : ByteArray := prog_24_method_90_code
def yX8_planes : MethodName := ⟨RX8, "planes", "(III)I"⟩
def dkwX8_planes_9 : List UInt8 := [108, 27, 28, 184, 1, 169, 96, 172]
abbrev dktX8_planes_9 : List UInt8 := dkwX8_planes_9 ++ []
def dkwX8_planes_8 : List UInt8 := [21, 5, 16, 10, 108, 21, 5, 16, 10, 112, 27, 28, 184, 1, 169, 21, 5, 16, 10, 112, 21, 5, 16, 10]
abbrev dktX8_planes_8 : List UInt8 := dkwX8_planes_8 ++ dktX8_planes_9
def dkwX8_planes_7 : List UInt8 := [167, 0, 54, 29, 4, 160, 0, 8, 21, 5, 167, 0, 44, 21, 5, 2, 160, 0, 7, 3, 167, 0, 34]
abbrev dktX8_planes_7 : List UInt8 := dkwX8_planes_7 ++ dktX8_planes_8
def dkwX8_planes_6 : List UInt8 := [21, 8, 96, 167, 0, 5, 21, 5, 54, 5, 132, 6, 1, 167, 255, 162, 29, 154, 0, 8, 21, 4]
abbrev dktX8_planes_6 : List UInt8 := dkwX8_planes_6 ++ dktX8_planes_7
def dkwX8_planes_5 : List UInt8 := [184, 1, 169, 164, 0, 6, 167, 0, 27, 132, 4, 1, 21, 5, 2, 160, 0, 14, 16, 10, 21, 7, 104]
abbrev dktX8_planes_5 : List UInt8 := dkwX8_planes_5 ++ dktX8_planes_6
def dkwX8_planes_4 : List UInt8 := [28, 184, 1, 169, 163, 0, 53, 4, 21, 8, 100, 21, 7, 27, 28, 184, 1, 169, 21, 8, 21, 7, 27, 28]
abbrev dktX8_planes_4 : List UInt8 := dkwX8_planes_4 ++ dktX8_planes_5
def dkwX8_planes_3 : List UInt8 := [54, 7, 21, 6, 5, 112, 54, 8, 4, 21, 7, 100, 21, 8, 27, 28, 184, 1, 169, 21, 7, 21, 8, 27]
abbrev dktX8_planes_3 : List UInt8 := dkwX8_planes_3 ++ dktX8_planes_4
def dkwX8_planes_2 : List UInt8 := [154, 0, 5, 3, 172, 3, 54, 4, 2, 54, 5, 3, 54, 6, 21, 6, 7, 162, 0, 94, 21, 6, 5, 108]
abbrev dktX8_planes_2 : List UInt8 := dkwX8_planes_2 ++ dktX8_planes_3
def dkwX8_planes_1 : List UInt8 := [153, 0, 16, 29, 3, 5, 184, 1, 122, 153, 0, 7, 4, 167, 0, 4, 3, 4, 4, 182, 0, 216]
abbrev dktX8_planes_1 : List UInt8 := dkwX8_planes_1 ++ dktX8_planes_2
def dkwX8_planes_0 : List UInt8 := [42, 3, 181, 0, 3, 42, 27, 3, 16, 99, 184, 1, 122, 153, 0, 26, 28, 3, 16, 99, 184, 1, 122]
abbrev dktX8_planes_0 : List UInt8 := dkwX8_planes_0 ++ dktX8_planes_1
theorem dksX8_planes_0 : cX8_planes.data.toList.drop 0 = dktX8_planes_0 := by decide +kernel
theorem dksX8_planes_1 : cX8_planes.data.toList.drop 23 = dktX8_planes_1 := dk_seg dksX8_planes_0 23 rfl rfl
theorem dksX8_planes_2 : cX8_planes.data.toList.drop 45 = dktX8_planes_2 := dk_seg dksX8_planes_1 22 rfl rfl
theorem dksX8_planes_3 : cX8_planes.data.toList.drop 69 = dktX8_planes_3 := dk_seg dksX8_planes_2 24 rfl rfl
theorem dksX8_planes_4 : cX8_planes.data.toList.drop 93 = dktX8_planes_4 := dk_seg dksX8_planes_3 24 rfl rfl
theorem dksX8_planes_5 : cX8_planes.data.toList.drop 117 = dktX8_planes_5 := dk_seg dksX8_planes_4 24 rfl rfl
theorem dksX8_planes_6 : cX8_planes.data.toList.drop 140 = dktX8_planes_6 := dk_seg dksX8_planes_5 23 rfl rfl
theorem dksX8_planes_7 : cX8_planes.data.toList.drop 162 = dktX8_planes_7 := dk_seg dksX8_planes_6 22 rfl rfl
theorem dksX8_planes_8 : cX8_planes.data.toList.drop 185 = dktX8_planes_8 := dk_seg dksX8_planes_7 23 rfl rfl
theorem dksX8_planes_9 : cX8_planes.data.toList.drop 209 = dktX8_planes_9 := dk_seg dksX8_planes_8 24 rfl rfl
theorem dX8_planes_0 : decode cX8_planes 0 = .ok (.aload_n 0, 1) := dk_42 (dk_at dksX8_planes_0 0 rfl rfl)
theorem dX8_planes_1 : decode cX8_planes 1 = .ok (.iconst 0, 1) := dk_3 (dk_at dksX8_planes_0 1 rfl rfl)
theorem dX8_planes_2 : decode cX8_planes 2 = .ok (.putfield 3, 3) := dk_181 0 3 (dk_at dksX8_planes_0 2 rfl rfl)
theorem dX8_planes_5 : decode cX8_planes 5 = .ok (.aload_n 0, 1) := dk_42 (dk_at dksX8_planes_0 5 rfl rfl)
theorem dX8_planes_6 : decode cX8_planes 6 = .ok (.iload_n 1, 1) := dk_27 (dk_at dksX8_planes_0 6 rfl rfl)
theorem dX8_planes_7 : decode cX8_planes 7 = .ok (.iconst 0, 1) := dk_3 (dk_at dksX8_planes_0 7 rfl rfl)
theorem dX8_planes_8 : decode cX8_planes 8 = .ok (.bipush 99, 2) := dk_16 99 (dk_at dksX8_planes_0 8 rfl rfl)
theorem dX8_planes_10 : decode cX8_planes 10 = .ok (.invokestatic 378, 3) := dk_184 1 122 (dk_at dksX8_planes_0 10 rfl rfl)
theorem dX8_planes_13 : decode cX8_planes 13 = .ok (.ifCond .eq 26, 3) := dk_153 0 26 (dk_at dksX8_planes_0 13 rfl rfl)
theorem dX8_planes_16 : decode cX8_planes 16 = .ok (.iload_n 2, 1) := dk_28 (dk_at dksX8_planes_0 16 rfl rfl)
theorem dX8_planes_17 : decode cX8_planes 17 = .ok (.iconst 0, 1) := dk_3 (dk_at dksX8_planes_0 17 rfl rfl)
theorem dX8_planes_18 : decode cX8_planes 18 = .ok (.bipush 99, 2) := dk_16 99 (dk_at dksX8_planes_0 18 rfl rfl)
theorem dX8_planes_20 : decode cX8_planes 20 = .ok (.invokestatic 378, 3) := dk_184 1 122 (dk_at dksX8_planes_0 20 rfl rfl)
theorem dX8_planes_23 : decode cX8_planes 23 = .ok (.ifCond .eq 16, 3) := dk_153 0 16 (dk_at dksX8_planes_1 0 rfl rfl)
theorem dX8_planes_26 : decode cX8_planes 26 = .ok (.iload_n 3, 1) := dk_29 (dk_at dksX8_planes_1 3 rfl rfl)
theorem dX8_planes_27 : decode cX8_planes 27 = .ok (.iconst 0, 1) := dk_3 (dk_at dksX8_planes_1 4 rfl rfl)
theorem dX8_planes_28 : decode cX8_planes 28 = .ok (.iconst 2, 1) := dk_5 (dk_at dksX8_planes_1 5 rfl rfl)
theorem dX8_planes_29 : decode cX8_planes 29 = .ok (.invokestatic 378, 3) := dk_184 1 122 (dk_at dksX8_planes_1 6 rfl rfl)
theorem dX8_planes_32 : decode cX8_planes 32 = .ok (.ifCond .eq 7, 3) := dk_153 0 7 (dk_at dksX8_planes_1 9 rfl rfl)
theorem dX8_planes_35 : decode cX8_planes 35 = .ok (.iconst 1, 1) := dk_4 (dk_at dksX8_planes_1 12 rfl rfl)
theorem dX8_planes_36 : decode cX8_planes 36 = .ok (.goto 4, 3) := dk_167 0 4 (dk_at dksX8_planes_1 13 rfl rfl)
theorem dX8_planes_39 : decode cX8_planes 39 = .ok (.iconst 0, 1) := dk_3 (dk_at dksX8_planes_1 16 rfl rfl)
theorem dX8_planes_40 : decode cX8_planes 40 = .ok (.iconst 1, 1) := dk_4 (dk_at dksX8_planes_1 17 rfl rfl)
theorem dX8_planes_41 : decode cX8_planes 41 = .ok (.iconst 1, 1) := dk_4 (dk_at dksX8_planes_1 18 rfl rfl)
theorem dX8_planes_42 : decode cX8_planes 42 = .ok (.invokevirtual 216, 3) := dk_182 0 216 (dk_at dksX8_planes_1 19 rfl rfl)
theorem dX8_planes_45 : decode cX8_planes 45 = .ok (.ifCond .ne 5, 3) := dk_154 0 5 (dk_at dksX8_planes_2 0 rfl rfl)
theorem dX8_planes_48 : decode cX8_planes 48 = .ok (.iconst 0, 1) := dk_3 (dk_at dksX8_planes_2 3 rfl rfl)
theorem dX8_planes_49 : decode cX8_planes 49 = .ok (.ireturn, 1) := dk_172 (dk_at dksX8_planes_2 4 rfl rfl)
theorem dX8_planes_50 : decode cX8_planes 50 = .ok (.iconst 0, 1) := dk_3 (dk_at dksX8_planes_2 5 rfl rfl)
theorem dX8_planes_51 : decode cX8_planes 51 = .ok (.istore 4, 2) := dk_54 4 (dk_at dksX8_planes_2 6 rfl rfl)
theorem dX8_planes_53 : decode cX8_planes 53 = .ok (.iconst (-1), 1) := dk_2 (dk_at dksX8_planes_2 8 rfl rfl)
theorem dX8_planes_54 : decode cX8_planes 54 = .ok (.istore 5, 2) := dk_54 5 (dk_at dksX8_planes_2 9 rfl rfl)
theorem dX8_planes_56 : decode cX8_planes 56 = .ok (.iconst 0, 1) := dk_3 (dk_at dksX8_planes_2 11 rfl rfl)
theorem dX8_planes_57 : decode cX8_planes 57 = .ok (.istore 6, 2) := dk_54 6 (dk_at dksX8_planes_2 12 rfl rfl)
theorem dX8_planes_59 : decode cX8_planes 59 = .ok (.iload 6, 2) := dk_21 6 (dk_at dksX8_planes_2 14 rfl rfl)
theorem dX8_planes_61 : decode cX8_planes 61 = .ok (.iconst 4, 1) := dk_7 (dk_at dksX8_planes_2 16 rfl rfl)
theorem dX8_planes_62 : decode cX8_planes 62 = .ok (.if_icmp .ge 94, 3) := dk_162 0 94 (dk_at dksX8_planes_2 17 rfl rfl)
theorem dX8_planes_65 : decode cX8_planes 65 = .ok (.iload 6, 2) := dk_21 6 (dk_at dksX8_planes_2 20 rfl rfl)
theorem dX8_planes_67 : decode cX8_planes 67 = .ok (.iconst 2, 1) := dk_5 (dk_at dksX8_planes_2 22 rfl rfl)
theorem dX8_planes_68 : decode cX8_planes 68 = .ok (.idiv, 1) := dk_108 (dk_at dksX8_planes_2 23 rfl rfl)
theorem dX8_planes_69 : decode cX8_planes 69 = .ok (.istore 7, 2) := dk_54 7 (dk_at dksX8_planes_3 0 rfl rfl)
theorem dX8_planes_71 : decode cX8_planes 71 = .ok (.iload 6, 2) := dk_21 6 (dk_at dksX8_planes_3 2 rfl rfl)
theorem dX8_planes_73 : decode cX8_planes 73 = .ok (.iconst 2, 1) := dk_5 (dk_at dksX8_planes_3 4 rfl rfl)
theorem dX8_planes_74 : decode cX8_planes 74 = .ok (.irem, 1) := dk_112 (dk_at dksX8_planes_3 5 rfl rfl)
theorem dX8_planes_75 : decode cX8_planes 75 = .ok (.istore 8, 2) := dk_54 8 (dk_at dksX8_planes_3 6 rfl rfl)
theorem dX8_planes_77 : decode cX8_planes 77 = .ok (.iconst 1, 1) := dk_4 (dk_at dksX8_planes_3 8 rfl rfl)
theorem dX8_planes_78 : decode cX8_planes 78 = .ok (.iload 7, 2) := dk_21 7 (dk_at dksX8_planes_3 9 rfl rfl)
theorem dX8_planes_80 : decode cX8_planes 80 = .ok (.isub, 1) := dk_100 (dk_at dksX8_planes_3 11 rfl rfl)
theorem dX8_planes_81 : decode cX8_planes 81 = .ok (.iload 8, 2) := dk_21 8 (dk_at dksX8_planes_3 12 rfl rfl)
theorem dX8_planes_83 : decode cX8_planes 83 = .ok (.iload_n 1, 1) := dk_27 (dk_at dksX8_planes_3 14 rfl rfl)
theorem dX8_planes_84 : decode cX8_planes 84 = .ok (.iload_n 2, 1) := dk_28 (dk_at dksX8_planes_3 15 rfl rfl)
theorem dX8_planes_85 : decode cX8_planes 85 = .ok (.invokestatic 425, 3) := dk_184 1 169 (dk_at dksX8_planes_3 16 rfl rfl)
theorem dX8_planes_88 : decode cX8_planes 88 = .ok (.iload 7, 2) := dk_21 7 (dk_at dksX8_planes_3 19 rfl rfl)
theorem dX8_planes_90 : decode cX8_planes 90 = .ok (.iload 8, 2) := dk_21 8 (dk_at dksX8_planes_3 21 rfl rfl)
theorem dX8_planes_92 : decode cX8_planes 92 = .ok (.iload_n 1, 1) := dk_27 (dk_at dksX8_planes_3 23 rfl rfl)
theorem dX8_planes_93 : decode cX8_planes 93 = .ok (.iload_n 2, 1) := dk_28 (dk_at dksX8_planes_4 0 rfl rfl)
theorem dX8_planes_94 : decode cX8_planes 94 = .ok (.invokestatic 425, 3) := dk_184 1 169 (dk_at dksX8_planes_4 1 rfl rfl)
theorem dX8_planes_97 : decode cX8_planes 97 = .ok (.if_icmp .gt 53, 3) := dk_163 0 53 (dk_at dksX8_planes_4 4 rfl rfl)
theorem dX8_planes_100 : decode cX8_planes 100 = .ok (.iconst 1, 1) := dk_4 (dk_at dksX8_planes_4 7 rfl rfl)
theorem dX8_planes_101 : decode cX8_planes 101 = .ok (.iload 8, 2) := dk_21 8 (dk_at dksX8_planes_4 8 rfl rfl)
theorem dX8_planes_103 : decode cX8_planes 103 = .ok (.isub, 1) := dk_100 (dk_at dksX8_planes_4 10 rfl rfl)
theorem dX8_planes_104 : decode cX8_planes 104 = .ok (.iload 7, 2) := dk_21 7 (dk_at dksX8_planes_4 11 rfl rfl)
theorem dX8_planes_106 : decode cX8_planes 106 = .ok (.iload_n 1, 1) := dk_27 (dk_at dksX8_planes_4 13 rfl rfl)
theorem dX8_planes_107 : decode cX8_planes 107 = .ok (.iload_n 2, 1) := dk_28 (dk_at dksX8_planes_4 14 rfl rfl)
theorem dX8_planes_108 : decode cX8_planes 108 = .ok (.invokestatic 425, 3) := dk_184 1 169 (dk_at dksX8_planes_4 15 rfl rfl)
theorem dX8_planes_111 : decode cX8_planes 111 = .ok (.iload 8, 2) := dk_21 8 (dk_at dksX8_planes_4 18 rfl rfl)
theorem dX8_planes_113 : decode cX8_planes 113 = .ok (.iload 7, 2) := dk_21 7 (dk_at dksX8_planes_4 20 rfl rfl)
theorem dX8_planes_115 : decode cX8_planes 115 = .ok (.iload_n 1, 1) := dk_27 (dk_at dksX8_planes_4 22 rfl rfl)
theorem dX8_planes_116 : decode cX8_planes 116 = .ok (.iload_n 2, 1) := dk_28 (dk_at dksX8_planes_4 23 rfl rfl)
theorem dX8_planes_117 : decode cX8_planes 117 = .ok (.invokestatic 425, 3) := dk_184 1 169 (dk_at dksX8_planes_5 0 rfl rfl)
theorem dX8_planes_120 : decode cX8_planes 120 = .ok (.if_icmp .le 6, 3) := dk_164 0 6 (dk_at dksX8_planes_5 3 rfl rfl)
theorem dX8_planes_123 : decode cX8_planes 123 = .ok (.goto 27, 3) := dk_167 0 27 (dk_at dksX8_planes_5 6 rfl rfl)
theorem dX8_planes_126 : decode cX8_planes 126 = .ok (.iinc 4 1, 3) := dk_132 4 1 (dk_at dksX8_planes_5 9 rfl rfl)
theorem dX8_planes_129 : decode cX8_planes 129 = .ok (.iload 5, 2) := dk_21 5 (dk_at dksX8_planes_5 12 rfl rfl)
theorem dX8_planes_131 : decode cX8_planes 131 = .ok (.iconst (-1), 1) := dk_2 (dk_at dksX8_planes_5 14 rfl rfl)
theorem dX8_planes_132 : decode cX8_planes 132 = .ok (.if_icmp .ne 14, 3) := dk_160 0 14 (dk_at dksX8_planes_5 15 rfl rfl)
theorem dX8_planes_135 : decode cX8_planes 135 = .ok (.bipush 10, 2) := dk_16 10 (dk_at dksX8_planes_5 18 rfl rfl)
theorem dX8_planes_137 : decode cX8_planes 137 = .ok (.iload 7, 2) := dk_21 7 (dk_at dksX8_planes_5 20 rfl rfl)
theorem dX8_planes_139 : decode cX8_planes 139 = .ok (.imul, 1) := dk_104 (dk_at dksX8_planes_5 22 rfl rfl)
theorem dX8_planes_140 : decode cX8_planes 140 = .ok (.iload 8, 2) := dk_21 8 (dk_at dksX8_planes_6 0 rfl rfl)
theorem dX8_planes_142 : decode cX8_planes 142 = .ok (.iadd, 1) := dk_96 (dk_at dksX8_planes_6 2 rfl rfl)
theorem dX8_planes_143 : decode cX8_planes 143 = .ok (.goto 5, 3) := dk_167 0 5 (dk_at dksX8_planes_6 3 rfl rfl)
theorem dX8_planes_146 : decode cX8_planes 146 = .ok (.iload 5, 2) := dk_21 5 (dk_at dksX8_planes_6 6 rfl rfl)
theorem dX8_planes_148 : decode cX8_planes 148 = .ok (.istore 5, 2) := dk_54 5 (dk_at dksX8_planes_6 8 rfl rfl)
theorem dX8_planes_150 : decode cX8_planes 150 = .ok (.iinc 6 1, 3) := dk_132 6 1 (dk_at dksX8_planes_6 10 rfl rfl)
theorem dX8_planes_153 : decode cX8_planes 153 = .ok (.goto (-94), 3) := dk_167 255 162 (dk_at dksX8_planes_6 13 rfl rfl)
theorem dX8_planes_156 : decode cX8_planes 156 = .ok (.iload_n 3, 1) := dk_29 (dk_at dksX8_planes_6 16 rfl rfl)
theorem dX8_planes_157 : decode cX8_planes 157 = .ok (.ifCond .ne 8, 3) := dk_154 0 8 (dk_at dksX8_planes_6 17 rfl rfl)
theorem dX8_planes_160 : decode cX8_planes 160 = .ok (.iload 4, 2) := dk_21 4 (dk_at dksX8_planes_6 20 rfl rfl)
theorem dX8_planes_162 : decode cX8_planes 162 = .ok (.goto 54, 3) := dk_167 0 54 (dk_at dksX8_planes_7 0 rfl rfl)
theorem dX8_planes_165 : decode cX8_planes 165 = .ok (.iload_n 3, 1) := dk_29 (dk_at dksX8_planes_7 3 rfl rfl)
theorem dX8_planes_166 : decode cX8_planes 166 = .ok (.iconst 1, 1) := dk_4 (dk_at dksX8_planes_7 4 rfl rfl)
theorem dX8_planes_167 : decode cX8_planes 167 = .ok (.if_icmp .ne 8, 3) := dk_160 0 8 (dk_at dksX8_planes_7 5 rfl rfl)
theorem dX8_planes_170 : decode cX8_planes 170 = .ok (.iload 5, 2) := dk_21 5 (dk_at dksX8_planes_7 8 rfl rfl)
theorem dX8_planes_172 : decode cX8_planes 172 = .ok (.goto 44, 3) := dk_167 0 44 (dk_at dksX8_planes_7 10 rfl rfl)
theorem dX8_planes_175 : decode cX8_planes 175 = .ok (.iload 5, 2) := dk_21 5 (dk_at dksX8_planes_7 13 rfl rfl)
theorem dX8_planes_177 : decode cX8_planes 177 = .ok (.iconst (-1), 1) := dk_2 (dk_at dksX8_planes_7 15 rfl rfl)
theorem dX8_planes_178 : decode cX8_planes 178 = .ok (.if_icmp .ne 7, 3) := dk_160 0 7 (dk_at dksX8_planes_7 16 rfl rfl)
theorem dX8_planes_181 : decode cX8_planes 181 = .ok (.iconst 0, 1) := dk_3 (dk_at dksX8_planes_7 19 rfl rfl)
theorem dX8_planes_182 : decode cX8_planes 182 = .ok (.goto 34, 3) := dk_167 0 34 (dk_at dksX8_planes_7 20 rfl rfl)
theorem dX8_planes_185 : decode cX8_planes 185 = .ok (.iload 5, 2) := dk_21 5 (dk_at dksX8_planes_8 0 rfl rfl)
theorem dX8_planes_187 : decode cX8_planes 187 = .ok (.bipush 10, 2) := dk_16 10 (dk_at dksX8_planes_8 2 rfl rfl)
theorem dX8_planes_189 : decode cX8_planes 189 = .ok (.idiv, 1) := dk_108 (dk_at dksX8_planes_8 4 rfl rfl)
theorem dX8_planes_190 : decode cX8_planes 190 = .ok (.iload 5, 2) := dk_21 5 (dk_at dksX8_planes_8 5 rfl rfl)
theorem dX8_planes_192 : decode cX8_planes 192 = .ok (.bipush 10, 2) := dk_16 10 (dk_at dksX8_planes_8 7 rfl rfl)
theorem dX8_planes_194 : decode cX8_planes 194 = .ok (.irem, 1) := dk_112 (dk_at dksX8_planes_8 9 rfl rfl)
theorem dX8_planes_195 : decode cX8_planes 195 = .ok (.iload_n 1, 1) := dk_27 (dk_at dksX8_planes_8 10 rfl rfl)
theorem dX8_planes_196 : decode cX8_planes 196 = .ok (.iload_n 2, 1) := dk_28 (dk_at dksX8_planes_8 11 rfl rfl)
theorem dX8_planes_197 : decode cX8_planes 197 = .ok (.invokestatic 425, 3) := dk_184 1 169 (dk_at dksX8_planes_8 12 rfl rfl)
theorem dX8_planes_200 : decode cX8_planes 200 = .ok (.iload 5, 2) := dk_21 5 (dk_at dksX8_planes_8 15 rfl rfl)
theorem dX8_planes_202 : decode cX8_planes 202 = .ok (.bipush 10, 2) := dk_16 10 (dk_at dksX8_planes_8 17 rfl rfl)
theorem dX8_planes_204 : decode cX8_planes 204 = .ok (.irem, 1) := dk_112 (dk_at dksX8_planes_8 19 rfl rfl)
theorem dX8_planes_205 : decode cX8_planes 205 = .ok (.iload 5, 2) := dk_21 5 (dk_at dksX8_planes_8 20 rfl rfl)
theorem dX8_planes_207 : decode cX8_planes 207 = .ok (.bipush 10, 2) := dk_16 10 (dk_at dksX8_planes_8 22 rfl rfl)
theorem dX8_planes_209 : decode cX8_planes 209 = .ok (.idiv, 1) := dk_108 (dk_at dksX8_planes_9 0 rfl rfl)
theorem dX8_planes_210 : decode cX8_planes 210 = .ok (.iload_n 1, 1) := dk_27 (dk_at dksX8_planes_9 1 rfl rfl)
theorem dX8_planes_211 : decode cX8_planes 211 = .ok (.iload_n 2, 1) := dk_28 (dk_at dksX8_planes_9 2 rfl rfl)
theorem dX8_planes_212 : decode cX8_planes 212 = .ok (.invokestatic 425, 3) := dk_184 1 169 (dk_at dksX8_planes_9 3 rfl rfl)
theorem dX8_planes_215 : decode cX8_planes 215 = .ok (.iadd, 1) := dk_96 (dk_at dksX8_planes_9 6 rfl rfl)
theorem dX8_planes_216 : decode cX8_planes 216 = .ok (.ireturn, 1) := dk_172 (dk_at dksX8_planes_9 7 rfl rfl)
abbrev cX8_hasBy : ByteArray := prog_24_method_89_code
def yX8_hasBy : MethodName := ⟨RX8, "hasBy", "(IIII)I"⟩
def dkwX8_hasBy_1 : List UInt8 := [167, 0, 5, 29, 116, 172]
abbrev dktX8_hasBy_1 : List UInt8 := dkwX8_hasBy_1 ++ []
def dkwX8_hasBy_0 : List UInt8 := [26, 27, 160, 0, 15, 26, 154, 0, 7, 3, 167, 0, 17, 28, 167, 0, 13, 26, 154, 0, 7, 29]
abbrev dktX8_hasBy_0 : List UInt8 := dkwX8_hasBy_0 ++ dktX8_hasBy_1
theorem dksX8_hasBy_0 : cX8_hasBy.data.toList.drop 0 = dktX8_hasBy_0 := by decide +kernel
theorem dksX8_hasBy_1 : cX8_hasBy.data.toList.drop 22 = dktX8_hasBy_1 := dk_seg dksX8_hasBy_0 22 rfl rfl
theorem dX8_hasBy_0 : decode cX8_hasBy 0 = .ok (.iload_n 0, 1) := dk_26 (dk_at dksX8_hasBy_0 0 rfl rfl)
theorem dX8_hasBy_1 : decode cX8_hasBy 1 = .ok (.iload_n 1, 1) := dk_27 (dk_at dksX8_hasBy_0 1 rfl rfl)
theorem dX8_hasBy_2 : decode cX8_hasBy 2 = .ok (.if_icmp .ne 15, 3) := dk_160 0 15 (dk_at dksX8_hasBy_0 2 rfl rfl)
theorem dX8_hasBy_5 : decode cX8_hasBy 5 = .ok (.iload_n 0, 1) := dk_26 (dk_at dksX8_hasBy_0 5 rfl rfl)
theorem dX8_hasBy_6 : decode cX8_hasBy 6 = .ok (.ifCond .ne 7, 3) := dk_154 0 7 (dk_at dksX8_hasBy_0 6 rfl rfl)
theorem dX8_hasBy_9 : decode cX8_hasBy 9 = .ok (.iconst 0, 1) := dk_3 (dk_at dksX8_hasBy_0 9 rfl rfl)
theorem dX8_hasBy_10 : decode cX8_hasBy 10 = .ok (.goto 17, 3) := dk_167 0 17 (dk_at dksX8_hasBy_0 10 rfl rfl)
theorem dX8_hasBy_13 : decode cX8_hasBy 13 = .ok (.iload_n 2, 1) := dk_28 (dk_at dksX8_hasBy_0 13 rfl rfl)
theorem dX8_hasBy_14 : decode cX8_hasBy 14 = .ok (.goto 13, 3) := dk_167 0 13 (dk_at dksX8_hasBy_0 14 rfl rfl)
theorem dX8_hasBy_17 : decode cX8_hasBy 17 = .ok (.iload_n 0, 1) := dk_26 (dk_at dksX8_hasBy_0 17 rfl rfl)
theorem dX8_hasBy_18 : decode cX8_hasBy 18 = .ok (.ifCond .ne 7, 3) := dk_154 0 7 (dk_at dksX8_hasBy_0 18 rfl rfl)
theorem dX8_hasBy_21 : decode cX8_hasBy 21 = .ok (.iload_n 3, 1) := dk_29 (dk_at dksX8_hasBy_0 21 rfl rfl)
theorem dX8_hasBy_22 : decode cX8_hasBy 22 = .ok (.goto 5, 3) := dk_167 0 5 (dk_at dksX8_hasBy_1 0 rfl rfl)
theorem dX8_hasBy_25 : decode cX8_hasBy 25 = .ok (.iload_n 3, 1) := dk_29 (dk_at dksX8_hasBy_1 3 rfl rfl)
theorem dX8_hasBy_26 : decode cX8_hasBy 26 = .ok (.ineg, 1) := dk_116 (dk_at dksX8_hasBy_1 4 rfl rfl)
theorem dX8_hasBy_27 : decode cX8_hasBy 27 = .ok (.ireturn, 1) := dk_172 (dk_at dksX8_hasBy_1 5 rfl rfl)
abbrev cX8_chairs : ByteArray := prog_24_method_92_code
def yX8_chairs : MethodName := ⟨RX8, "chairs", "(III)I"⟩
def dkwX8_chairs_4 : List UInt8 := [27, 96, 46, 21, 4, 162, 0, 14, 42, 180, 0, 71, 3, 27, 96, 46, 167, 0, 5, 21, 4, 172]
abbrev dktX8_chairs_4 : List UInt8 := dkwX8_chairs_4 ++ []
def dkwX8_chairs_3 : List UInt8 := [164, 0, 9, 132, 4, 255, 167, 255, 242, 28, 27, 122, 4, 126, 154, 0, 5, 3, 172, 42, 180, 0, 71, 3]
abbrev dktX8_chairs_3 : List UInt8 := dkwX8_chairs_3 ++ dktX8_chairs_4
def dkwX8_chairs_2 : List UInt8 := [4, 182, 0, 216, 154, 0, 5, 3, 172, 17, 3, 231, 54, 4, 42, 28, 21, 4, 182, 1, 173, 29]
abbrev dktX8_chairs_2 : List UInt8 := dkwX8_chairs_2 ++ dktX8_chairs_3
def dkwX8_chairs_1 : List UInt8 := [180, 0, 179, 120, 162, 0, 18, 29, 3, 17, 39, 15, 184, 1, 122, 153, 0, 7, 4, 167, 0, 4, 3, 5]
abbrev dktX8_chairs_1 : List UInt8 := dkwX8_chairs_1 ++ dktX8_chairs_2
def dkwX8_chairs_0 : List UInt8 := [42, 3, 181, 0, 3, 42, 27, 4, 182, 1, 134, 153, 0, 42, 42, 28, 155, 0, 28, 28, 4, 42]
abbrev dktX8_chairs_0 : List UInt8 := dkwX8_chairs_0 ++ dktX8_chairs_1
theorem dksX8_chairs_0 : cX8_chairs.data.toList.drop 0 = dktX8_chairs_0 := by decide +kernel
theorem dksX8_chairs_1 : cX8_chairs.data.toList.drop 22 = dktX8_chairs_1 := dk_seg dksX8_chairs_0 22 rfl rfl
theorem dksX8_chairs_2 : cX8_chairs.data.toList.drop 46 = dktX8_chairs_2 := dk_seg dksX8_chairs_1 24 rfl rfl
theorem dksX8_chairs_3 : cX8_chairs.data.toList.drop 68 = dktX8_chairs_3 := dk_seg dksX8_chairs_2 22 rfl rfl
theorem dksX8_chairs_4 : cX8_chairs.data.toList.drop 92 = dktX8_chairs_4 := dk_seg dksX8_chairs_3 24 rfl rfl
theorem dX8_chairs_0 : decode cX8_chairs 0 = .ok (.aload_n 0, 1) := dk_42 (dk_at dksX8_chairs_0 0 rfl rfl)
theorem dX8_chairs_1 : decode cX8_chairs 1 = .ok (.iconst 0, 1) := dk_3 (dk_at dksX8_chairs_0 1 rfl rfl)
theorem dX8_chairs_2 : decode cX8_chairs 2 = .ok (.putfield 3, 3) := dk_181 0 3 (dk_at dksX8_chairs_0 2 rfl rfl)
theorem dX8_chairs_5 : decode cX8_chairs 5 = .ok (.aload_n 0, 1) := dk_42 (dk_at dksX8_chairs_0 5 rfl rfl)
theorem dX8_chairs_6 : decode cX8_chairs 6 = .ok (.iload_n 1, 1) := dk_27 (dk_at dksX8_chairs_0 6 rfl rfl)
theorem dX8_chairs_7 : decode cX8_chairs 7 = .ok (.iconst 1, 1) := dk_4 (dk_at dksX8_chairs_0 7 rfl rfl)
theorem dX8_chairs_8 : decode cX8_chairs 8 = .ok (.invokevirtual 390, 3) := dk_182 1 134 (dk_at dksX8_chairs_0 8 rfl rfl)
theorem dX8_chairs_11 : decode cX8_chairs 11 = .ok (.ifCond .eq 42, 3) := dk_153 0 42 (dk_at dksX8_chairs_0 11 rfl rfl)
theorem dX8_chairs_14 : decode cX8_chairs 14 = .ok (.aload_n 0, 1) := dk_42 (dk_at dksX8_chairs_0 14 rfl rfl)
theorem dX8_chairs_15 : decode cX8_chairs 15 = .ok (.iload_n 2, 1) := dk_28 (dk_at dksX8_chairs_0 15 rfl rfl)
theorem dX8_chairs_16 : decode cX8_chairs 16 = .ok (.ifCond .lt 28, 3) := dk_155 0 28 (dk_at dksX8_chairs_0 16 rfl rfl)
theorem dX8_chairs_19 : decode cX8_chairs 19 = .ok (.iload_n 2, 1) := dk_28 (dk_at dksX8_chairs_0 19 rfl rfl)
theorem dX8_chairs_20 : decode cX8_chairs 20 = .ok (.iconst 1, 1) := dk_4 (dk_at dksX8_chairs_0 20 rfl rfl)
theorem dX8_chairs_21 : decode cX8_chairs 21 = .ok (.aload_n 0, 1) := dk_42 (dk_at dksX8_chairs_0 21 rfl rfl)
theorem dX8_chairs_22 : decode cX8_chairs 22 = .ok (.getfield 179, 3) := dk_180 0 179 (dk_at dksX8_chairs_1 0 rfl rfl)
theorem dX8_chairs_25 : decode cX8_chairs 25 = .ok (.ishl, 1) := dk_120 (dk_at dksX8_chairs_1 3 rfl rfl)
theorem dX8_chairs_26 : decode cX8_chairs 26 = .ok (.if_icmp .ge 18, 3) := dk_162 0 18 (dk_at dksX8_chairs_1 4 rfl rfl)
theorem dX8_chairs_29 : decode cX8_chairs 29 = .ok (.iload_n 3, 1) := dk_29 (dk_at dksX8_chairs_1 7 rfl rfl)
theorem dX8_chairs_30 : decode cX8_chairs 30 = .ok (.iconst 0, 1) := dk_3 (dk_at dksX8_chairs_1 8 rfl rfl)
theorem dX8_chairs_31 : decode cX8_chairs 31 = .ok (.sipush 9999, 3) := dk_17 39 15 (dk_at dksX8_chairs_1 9 rfl rfl)
theorem dX8_chairs_34 : decode cX8_chairs 34 = .ok (.invokestatic 378, 3) := dk_184 1 122 (dk_at dksX8_chairs_1 12 rfl rfl)
theorem dX8_chairs_37 : decode cX8_chairs 37 = .ok (.ifCond .eq 7, 3) := dk_153 0 7 (dk_at dksX8_chairs_1 15 rfl rfl)
theorem dX8_chairs_40 : decode cX8_chairs 40 = .ok (.iconst 1, 1) := dk_4 (dk_at dksX8_chairs_1 18 rfl rfl)
theorem dX8_chairs_41 : decode cX8_chairs 41 = .ok (.goto 4, 3) := dk_167 0 4 (dk_at dksX8_chairs_1 19 rfl rfl)
theorem dX8_chairs_44 : decode cX8_chairs 44 = .ok (.iconst 0, 1) := dk_3 (dk_at dksX8_chairs_1 22 rfl rfl)
theorem dX8_chairs_45 : decode cX8_chairs 45 = .ok (.iconst 2, 1) := dk_5 (dk_at dksX8_chairs_1 23 rfl rfl)
theorem dX8_chairs_46 : decode cX8_chairs 46 = .ok (.iconst 1, 1) := dk_4 (dk_at dksX8_chairs_2 0 rfl rfl)
theorem dX8_chairs_47 : decode cX8_chairs 47 = .ok (.invokevirtual 216, 3) := dk_182 0 216 (dk_at dksX8_chairs_2 1 rfl rfl)
theorem dX8_chairs_50 : decode cX8_chairs 50 = .ok (.ifCond .ne 5, 3) := dk_154 0 5 (dk_at dksX8_chairs_2 4 rfl rfl)
theorem dX8_chairs_53 : decode cX8_chairs 53 = .ok (.iconst 0, 1) := dk_3 (dk_at dksX8_chairs_2 7 rfl rfl)
theorem dX8_chairs_54 : decode cX8_chairs 54 = .ok (.ireturn, 1) := dk_172 (dk_at dksX8_chairs_2 8 rfl rfl)
theorem dX8_chairs_55 : decode cX8_chairs 55 = .ok (.sipush 999, 3) := dk_17 3 231 (dk_at dksX8_chairs_2 9 rfl rfl)
theorem dX8_chairs_58 : decode cX8_chairs 58 = .ok (.istore 4, 2) := dk_54 4 (dk_at dksX8_chairs_2 12 rfl rfl)
theorem dX8_chairs_60 : decode cX8_chairs 60 = .ok (.aload_n 0, 1) := dk_42 (dk_at dksX8_chairs_2 14 rfl rfl)
theorem dX8_chairs_61 : decode cX8_chairs 61 = .ok (.iload_n 2, 1) := dk_28 (dk_at dksX8_chairs_2 15 rfl rfl)
theorem dX8_chairs_62 : decode cX8_chairs 62 = .ok (.iload 4, 2) := dk_21 4 (dk_at dksX8_chairs_2 16 rfl rfl)
theorem dX8_chairs_64 : decode cX8_chairs 64 = .ok (.invokevirtual 429, 3) := dk_182 1 173 (dk_at dksX8_chairs_2 18 rfl rfl)
theorem dX8_chairs_67 : decode cX8_chairs 67 = .ok (.iload_n 3, 1) := dk_29 (dk_at dksX8_chairs_2 21 rfl rfl)
theorem dX8_chairs_68 : decode cX8_chairs 68 = .ok (.if_icmp .le 9, 3) := dk_164 0 9 (dk_at dksX8_chairs_3 0 rfl rfl)
theorem dX8_chairs_71 : decode cX8_chairs 71 = .ok (.iinc 4 (-1), 3) := dk_132 4 255 (dk_at dksX8_chairs_3 3 rfl rfl)
theorem dX8_chairs_74 : decode cX8_chairs 74 = .ok (.goto (-14), 3) := dk_167 255 242 (dk_at dksX8_chairs_3 6 rfl rfl)
theorem dX8_chairs_77 : decode cX8_chairs 77 = .ok (.iload_n 2, 1) := dk_28 (dk_at dksX8_chairs_3 9 rfl rfl)
theorem dX8_chairs_78 : decode cX8_chairs 78 = .ok (.iload_n 1, 1) := dk_27 (dk_at dksX8_chairs_3 10 rfl rfl)
theorem dX8_chairs_79 : decode cX8_chairs 79 = .ok (.ishr, 1) := dk_122 (dk_at dksX8_chairs_3 11 rfl rfl)
theorem dX8_chairs_80 : decode cX8_chairs 80 = .ok (.iconst 1, 1) := dk_4 (dk_at dksX8_chairs_3 12 rfl rfl)
theorem dX8_chairs_81 : decode cX8_chairs 81 = .ok (.iand, 1) := dk_126 (dk_at dksX8_chairs_3 13 rfl rfl)
theorem dX8_chairs_82 : decode cX8_chairs 82 = .ok (.ifCond .ne 5, 3) := dk_154 0 5 (dk_at dksX8_chairs_3 14 rfl rfl)
theorem dX8_chairs_85 : decode cX8_chairs 85 = .ok (.iconst 0, 1) := dk_3 (dk_at dksX8_chairs_3 17 rfl rfl)
theorem dX8_chairs_86 : decode cX8_chairs 86 = .ok (.ireturn, 1) := dk_172 (dk_at dksX8_chairs_3 18 rfl rfl)
theorem dX8_chairs_87 : decode cX8_chairs 87 = .ok (.aload_n 0, 1) := dk_42 (dk_at dksX8_chairs_3 19 rfl rfl)
theorem dX8_chairs_88 : decode cX8_chairs 88 = .ok (.getfield 71, 3) := dk_180 0 71 (dk_at dksX8_chairs_3 20 rfl rfl)
theorem dX8_chairs_91 : decode cX8_chairs 91 = .ok (.iconst 0, 1) := dk_3 (dk_at dksX8_chairs_3 23 rfl rfl)
theorem dX8_chairs_92 : decode cX8_chairs 92 = .ok (.iload_n 1, 1) := dk_27 (dk_at dksX8_chairs_4 0 rfl rfl)
theorem dX8_chairs_93 : decode cX8_chairs 93 = .ok (.iadd, 1) := dk_96 (dk_at dksX8_chairs_4 1 rfl rfl)
theorem dX8_chairs_94 : decode cX8_chairs 94 = .ok (.iaload, 1) := dk_46 (dk_at dksX8_chairs_4 2 rfl rfl)
theorem dX8_chairs_95 : decode cX8_chairs 95 = .ok (.iload 4, 2) := dk_21 4 (dk_at dksX8_chairs_4 3 rfl rfl)
theorem dX8_chairs_97 : decode cX8_chairs 97 = .ok (.if_icmp .ge 14, 3) := dk_162 0 14 (dk_at dksX8_chairs_4 5 rfl rfl)
theorem dX8_chairs_100 : decode cX8_chairs 100 = .ok (.aload_n 0, 1) := dk_42 (dk_at dksX8_chairs_4 8 rfl rfl)
theorem dX8_chairs_101 : decode cX8_chairs 101 = .ok (.getfield 71, 3) := dk_180 0 71 (dk_at dksX8_chairs_4 9 rfl rfl)
theorem dX8_chairs_104 : decode cX8_chairs 104 = .ok (.iconst 0, 1) := dk_3 (dk_at dksX8_chairs_4 12 rfl rfl)
theorem dX8_chairs_105 : decode cX8_chairs 105 = .ok (.iload_n 1, 1) := dk_27 (dk_at dksX8_chairs_4 13 rfl rfl)
theorem dX8_chairs_106 : decode cX8_chairs 106 = .ok (.iadd, 1) := dk_96 (dk_at dksX8_chairs_4 14 rfl rfl)
theorem dX8_chairs_107 : decode cX8_chairs 107 = .ok (.iaload, 1) := dk_46 (dk_at dksX8_chairs_4 15 rfl rfl)
theorem dX8_chairs_108 : decode cX8_chairs 108 = .ok (.goto 5, 3) := dk_167 0 5 (dk_at dksX8_chairs_4 16 rfl rfl)
theorem dX8_chairs_111 : decode cX8_chairs 111 = .ok (.iload 4, 2) := dk_21 4 (dk_at dksX8_chairs_4 19 rfl rfl)
theorem dX8_chairs_113 : decode cX8_chairs 113 = .ok (.ireturn, 1) := dk_172 (dk_at dksX8_chairs_4 21 rfl rfl)
abbrev cX8_chairsBy : ByteArray := prog_24_method_91_code
def yX8_chairsBy : MethodName := ⟨RX8, "chairsBy", "(II)I"⟩
def dkwX8_chairsBy_2 : List UInt8 := [28, 104, 96, 62, 132, 4, 1, 167, 255, 208, 29, 172]
abbrev dktX8_chairsBy_2 : List UInt8 := dkwX8_chairsBy_2 ++ []
def dkwX8_chairsBy_1 : List UInt8 := [180, 0, 71, 3, 21, 4, 96, 46, 28, 162, 0, 15, 42, 180, 0, 71, 3, 21, 4, 96, 46, 167, 0, 4]
abbrev dktX8_chairsBy_1 : List UInt8 := dkwX8_chairsBy_1 ++ dktX8_chairsBy_2
def dkwX8_chairsBy_0 : List UInt8 := [3, 62, 3, 54, 4, 21, 4, 42, 180, 0, 179, 162, 0, 45, 29, 27, 21, 4, 122, 4, 126, 42]
abbrev dktX8_chairsBy_0 : List UInt8 := dkwX8_chairsBy_0 ++ dktX8_chairsBy_1
theorem dksX8_chairsBy_0 : cX8_chairsBy.data.toList.drop 0 = dktX8_chairsBy_0 := by decide +kernel
theorem dksX8_chairsBy_1 : cX8_chairsBy.data.toList.drop 22 = dktX8_chairsBy_1 := dk_seg dksX8_chairsBy_0 22 rfl rfl
theorem dksX8_chairsBy_2 : cX8_chairsBy.data.toList.drop 46 = dktX8_chairsBy_2 := dk_seg dksX8_chairsBy_1 24 rfl rfl
theorem dX8_chairsBy_0 : decode cX8_chairsBy 0 = .ok (.iconst 0, 1) := dk_3 (dk_at dksX8_chairsBy_0 0 rfl rfl)
theorem dX8_chairsBy_1 : decode cX8_chairsBy 1 = .ok (.istore_n 3, 1) := dk_62 (dk_at dksX8_chairsBy_0 1 rfl rfl)
theorem dX8_chairsBy_2 : decode cX8_chairsBy 2 = .ok (.iconst 0, 1) := dk_3 (dk_at dksX8_chairsBy_0 2 rfl rfl)
theorem dX8_chairsBy_3 : decode cX8_chairsBy 3 = .ok (.istore 4, 2) := dk_54 4 (dk_at dksX8_chairsBy_0 3 rfl rfl)
theorem dX8_chairsBy_5 : decode cX8_chairsBy 5 = .ok (.iload 4, 2) := dk_21 4 (dk_at dksX8_chairsBy_0 5 rfl rfl)
theorem dX8_chairsBy_7 : decode cX8_chairsBy 7 = .ok (.aload_n 0, 1) := dk_42 (dk_at dksX8_chairsBy_0 7 rfl rfl)
theorem dX8_chairsBy_8 : decode cX8_chairsBy 8 = .ok (.getfield 179, 3) := dk_180 0 179 (dk_at dksX8_chairsBy_0 8 rfl rfl)
theorem dX8_chairsBy_11 : decode cX8_chairsBy 11 = .ok (.if_icmp .ge 45, 3) := dk_162 0 45 (dk_at dksX8_chairsBy_0 11 rfl rfl)
theorem dX8_chairsBy_14 : decode cX8_chairsBy 14 = .ok (.iload_n 3, 1) := dk_29 (dk_at dksX8_chairsBy_0 14 rfl rfl)
theorem dX8_chairsBy_15 : decode cX8_chairsBy 15 = .ok (.iload_n 1, 1) := dk_27 (dk_at dksX8_chairsBy_0 15 rfl rfl)
theorem dX8_chairsBy_16 : decode cX8_chairsBy 16 = .ok (.iload 4, 2) := dk_21 4 (dk_at dksX8_chairsBy_0 16 rfl rfl)
theorem dX8_chairsBy_18 : decode cX8_chairsBy 18 = .ok (.ishr, 1) := dk_122 (dk_at dksX8_chairsBy_0 18 rfl rfl)
theorem dX8_chairsBy_19 : decode cX8_chairsBy 19 = .ok (.iconst 1, 1) := dk_4 (dk_at dksX8_chairsBy_0 19 rfl rfl)
theorem dX8_chairsBy_20 : decode cX8_chairsBy 20 = .ok (.iand, 1) := dk_126 (dk_at dksX8_chairsBy_0 20 rfl rfl)
theorem dX8_chairsBy_21 : decode cX8_chairsBy 21 = .ok (.aload_n 0, 1) := dk_42 (dk_at dksX8_chairsBy_0 21 rfl rfl)
theorem dX8_chairsBy_22 : decode cX8_chairsBy 22 = .ok (.getfield 71, 3) := dk_180 0 71 (dk_at dksX8_chairsBy_1 0 rfl rfl)
theorem dX8_chairsBy_25 : decode cX8_chairsBy 25 = .ok (.iconst 0, 1) := dk_3 (dk_at dksX8_chairsBy_1 3 rfl rfl)
theorem dX8_chairsBy_26 : decode cX8_chairsBy 26 = .ok (.iload 4, 2) := dk_21 4 (dk_at dksX8_chairsBy_1 4 rfl rfl)
theorem dX8_chairsBy_28 : decode cX8_chairsBy 28 = .ok (.iadd, 1) := dk_96 (dk_at dksX8_chairsBy_1 6 rfl rfl)
theorem dX8_chairsBy_29 : decode cX8_chairsBy 29 = .ok (.iaload, 1) := dk_46 (dk_at dksX8_chairsBy_1 7 rfl rfl)
theorem dX8_chairsBy_30 : decode cX8_chairsBy 30 = .ok (.iload_n 2, 1) := dk_28 (dk_at dksX8_chairsBy_1 8 rfl rfl)
theorem dX8_chairsBy_31 : decode cX8_chairsBy 31 = .ok (.if_icmp .ge 15, 3) := dk_162 0 15 (dk_at dksX8_chairsBy_1 9 rfl rfl)
theorem dX8_chairsBy_34 : decode cX8_chairsBy 34 = .ok (.aload_n 0, 1) := dk_42 (dk_at dksX8_chairsBy_1 12 rfl rfl)
theorem dX8_chairsBy_35 : decode cX8_chairsBy 35 = .ok (.getfield 71, 3) := dk_180 0 71 (dk_at dksX8_chairsBy_1 13 rfl rfl)
theorem dX8_chairsBy_38 : decode cX8_chairsBy 38 = .ok (.iconst 0, 1) := dk_3 (dk_at dksX8_chairsBy_1 16 rfl rfl)
theorem dX8_chairsBy_39 : decode cX8_chairsBy 39 = .ok (.iload 4, 2) := dk_21 4 (dk_at dksX8_chairsBy_1 17 rfl rfl)
theorem dX8_chairsBy_41 : decode cX8_chairsBy 41 = .ok (.iadd, 1) := dk_96 (dk_at dksX8_chairsBy_1 19 rfl rfl)
theorem dX8_chairsBy_42 : decode cX8_chairsBy 42 = .ok (.iaload, 1) := dk_46 (dk_at dksX8_chairsBy_1 20 rfl rfl)
theorem dX8_chairsBy_43 : decode cX8_chairsBy 43 = .ok (.goto 4, 3) := dk_167 0 4 (dk_at dksX8_chairsBy_1 21 rfl rfl)
theorem dX8_chairsBy_46 : decode cX8_chairsBy 46 = .ok (.iload_n 2, 1) := dk_28 (dk_at dksX8_chairsBy_2 0 rfl rfl)
theorem dX8_chairsBy_47 : decode cX8_chairsBy 47 = .ok (.imul, 1) := dk_104 (dk_at dksX8_chairsBy_2 1 rfl rfl)
theorem dX8_chairsBy_48 : decode cX8_chairsBy 48 = .ok (.iadd, 1) := dk_96 (dk_at dksX8_chairsBy_2 2 rfl rfl)
theorem dX8_chairsBy_49 : decode cX8_chairsBy 49 = .ok (.istore_n 3, 1) := dk_62 (dk_at dksX8_chairsBy_2 3 rfl rfl)
theorem dX8_chairsBy_50 : decode cX8_chairsBy 50 = .ok (.iinc 4 1, 3) := dk_132 4 1 (dk_at dksX8_chairsBy_2 4 rfl rfl)
theorem dX8_chairsBy_53 : decode cX8_chairsBy 53 = .ok (.goto (-48), 3) := dk_167 255 208 (dk_at dksX8_chairsBy_2 7 rfl rfl)
theorem dX8_chairsBy_56 : decode cX8_chairsBy 56 = .ok (.iload_n 3, 1) := dk_29 (dk_at dksX8_chairsBy_2 10 rfl rfl)
theorem dX8_chairsBy_57 : decode cX8_chairsBy 57 = .ok (.ireturn, 1) := dk_172 (dk_at dksX8_chairsBy_2 11 rfl rfl)
abbrev cX8_tallest : ByteArray := prog_24_method_93_code
def yX8_tallest : MethodName := ⟨RX8, "tallest", "(I)I"⟩
def dkwX8_tallest_3 : List UInt8 := [160, 0, 7, 28, 167, 0, 11, 42, 180, 0, 71, 3, 28, 96, 46, 172]
abbrev dktX8_tallest_3 : List UInt8 := dkwX8_tallest_3 ++ []
def dkwX8_tallest_2 : List UInt8 := [180, 0, 71, 3, 28, 96, 46, 164, 0, 5, 29, 61, 132, 3, 1, 167, 255, 219, 27, 153, 0, 8, 28, 2]
abbrev dktX8_tallest_2 : List UInt8 := dkwX8_tallest_2 ++ dktX8_tallest_3
def dkwX8_tallest_1 : List UInt8 := [3, 62, 29, 42, 180, 0, 179, 162, 0, 35, 28, 2, 159, 0, 22, 42, 180, 0, 71, 3, 29, 96, 46, 42]
abbrev dktX8_tallest_1 : List UInt8 := dkwX8_tallest_1 ++ dktX8_tallest_2
def dkwX8_tallest_0 : List UInt8 := [42, 3, 181, 0, 3, 42, 27, 3, 4, 184, 1, 122, 4, 4, 182, 0, 216, 154, 0, 5, 3, 172, 2, 61]
abbrev dktX8_tallest_0 : List UInt8 := dkwX8_tallest_0 ++ dktX8_tallest_1
theorem dksX8_tallest_0 : cX8_tallest.data.toList.drop 0 = dktX8_tallest_0 := by decide +kernel
theorem dksX8_tallest_1 : cX8_tallest.data.toList.drop 24 = dktX8_tallest_1 := dk_seg dksX8_tallest_0 24 rfl rfl
theorem dksX8_tallest_2 : cX8_tallest.data.toList.drop 48 = dktX8_tallest_2 := dk_seg dksX8_tallest_1 24 rfl rfl
theorem dksX8_tallest_3 : cX8_tallest.data.toList.drop 72 = dktX8_tallest_3 := dk_seg dksX8_tallest_2 24 rfl rfl
theorem dX8_tallest_0 : decode cX8_tallest 0 = .ok (.aload_n 0, 1) := dk_42 (dk_at dksX8_tallest_0 0 rfl rfl)
theorem dX8_tallest_1 : decode cX8_tallest 1 = .ok (.iconst 0, 1) := dk_3 (dk_at dksX8_tallest_0 1 rfl rfl)
theorem dX8_tallest_2 : decode cX8_tallest 2 = .ok (.putfield 3, 3) := dk_181 0 3 (dk_at dksX8_tallest_0 2 rfl rfl)
theorem dX8_tallest_5 : decode cX8_tallest 5 = .ok (.aload_n 0, 1) := dk_42 (dk_at dksX8_tallest_0 5 rfl rfl)
theorem dX8_tallest_6 : decode cX8_tallest 6 = .ok (.iload_n 1, 1) := dk_27 (dk_at dksX8_tallest_0 6 rfl rfl)
theorem dX8_tallest_7 : decode cX8_tallest 7 = .ok (.iconst 0, 1) := dk_3 (dk_at dksX8_tallest_0 7 rfl rfl)
theorem dX8_tallest_8 : decode cX8_tallest 8 = .ok (.iconst 1, 1) := dk_4 (dk_at dksX8_tallest_0 8 rfl rfl)
theorem dX8_tallest_9 : decode cX8_tallest 9 = .ok (.invokestatic 378, 3) := dk_184 1 122 (dk_at dksX8_tallest_0 9 rfl rfl)
theorem dX8_tallest_12 : decode cX8_tallest 12 = .ok (.iconst 1, 1) := dk_4 (dk_at dksX8_tallest_0 12 rfl rfl)
theorem dX8_tallest_13 : decode cX8_tallest 13 = .ok (.iconst 1, 1) := dk_4 (dk_at dksX8_tallest_0 13 rfl rfl)
theorem dX8_tallest_14 : decode cX8_tallest 14 = .ok (.invokevirtual 216, 3) := dk_182 0 216 (dk_at dksX8_tallest_0 14 rfl rfl)
theorem dX8_tallest_17 : decode cX8_tallest 17 = .ok (.ifCond .ne 5, 3) := dk_154 0 5 (dk_at dksX8_tallest_0 17 rfl rfl)
theorem dX8_tallest_20 : decode cX8_tallest 20 = .ok (.iconst 0, 1) := dk_3 (dk_at dksX8_tallest_0 20 rfl rfl)
theorem dX8_tallest_21 : decode cX8_tallest 21 = .ok (.ireturn, 1) := dk_172 (dk_at dksX8_tallest_0 21 rfl rfl)
theorem dX8_tallest_22 : decode cX8_tallest 22 = .ok (.iconst (-1), 1) := dk_2 (dk_at dksX8_tallest_0 22 rfl rfl)
theorem dX8_tallest_23 : decode cX8_tallest 23 = .ok (.istore_n 2, 1) := dk_61 (dk_at dksX8_tallest_0 23 rfl rfl)
theorem dX8_tallest_24 : decode cX8_tallest 24 = .ok (.iconst 0, 1) := dk_3 (dk_at dksX8_tallest_1 0 rfl rfl)
theorem dX8_tallest_25 : decode cX8_tallest 25 = .ok (.istore_n 3, 1) := dk_62 (dk_at dksX8_tallest_1 1 rfl rfl)
theorem dX8_tallest_26 : decode cX8_tallest 26 = .ok (.iload_n 3, 1) := dk_29 (dk_at dksX8_tallest_1 2 rfl rfl)
theorem dX8_tallest_27 : decode cX8_tallest 27 = .ok (.aload_n 0, 1) := dk_42 (dk_at dksX8_tallest_1 3 rfl rfl)
theorem dX8_tallest_28 : decode cX8_tallest 28 = .ok (.getfield 179, 3) := dk_180 0 179 (dk_at dksX8_tallest_1 4 rfl rfl)
theorem dX8_tallest_31 : decode cX8_tallest 31 = .ok (.if_icmp .ge 35, 3) := dk_162 0 35 (dk_at dksX8_tallest_1 7 rfl rfl)
theorem dX8_tallest_34 : decode cX8_tallest 34 = .ok (.iload_n 2, 1) := dk_28 (dk_at dksX8_tallest_1 10 rfl rfl)
theorem dX8_tallest_35 : decode cX8_tallest 35 = .ok (.iconst (-1), 1) := dk_2 (dk_at dksX8_tallest_1 11 rfl rfl)
theorem dX8_tallest_36 : decode cX8_tallest 36 = .ok (.if_icmp .eq 22, 3) := dk_159 0 22 (dk_at dksX8_tallest_1 12 rfl rfl)
theorem dX8_tallest_39 : decode cX8_tallest 39 = .ok (.aload_n 0, 1) := dk_42 (dk_at dksX8_tallest_1 15 rfl rfl)
theorem dX8_tallest_40 : decode cX8_tallest 40 = .ok (.getfield 71, 3) := dk_180 0 71 (dk_at dksX8_tallest_1 16 rfl rfl)
theorem dX8_tallest_43 : decode cX8_tallest 43 = .ok (.iconst 0, 1) := dk_3 (dk_at dksX8_tallest_1 19 rfl rfl)
theorem dX8_tallest_44 : decode cX8_tallest 44 = .ok (.iload_n 3, 1) := dk_29 (dk_at dksX8_tallest_1 20 rfl rfl)
theorem dX8_tallest_45 : decode cX8_tallest 45 = .ok (.iadd, 1) := dk_96 (dk_at dksX8_tallest_1 21 rfl rfl)
theorem dX8_tallest_46 : decode cX8_tallest 46 = .ok (.iaload, 1) := dk_46 (dk_at dksX8_tallest_1 22 rfl rfl)
theorem dX8_tallest_47 : decode cX8_tallest 47 = .ok (.aload_n 0, 1) := dk_42 (dk_at dksX8_tallest_1 23 rfl rfl)
theorem dX8_tallest_48 : decode cX8_tallest 48 = .ok (.getfield 71, 3) := dk_180 0 71 (dk_at dksX8_tallest_2 0 rfl rfl)
theorem dX8_tallest_51 : decode cX8_tallest 51 = .ok (.iconst 0, 1) := dk_3 (dk_at dksX8_tallest_2 3 rfl rfl)
theorem dX8_tallest_52 : decode cX8_tallest 52 = .ok (.iload_n 2, 1) := dk_28 (dk_at dksX8_tallest_2 4 rfl rfl)
theorem dX8_tallest_53 : decode cX8_tallest 53 = .ok (.iadd, 1) := dk_96 (dk_at dksX8_tallest_2 5 rfl rfl)
theorem dX8_tallest_54 : decode cX8_tallest 54 = .ok (.iaload, 1) := dk_46 (dk_at dksX8_tallest_2 6 rfl rfl)
theorem dX8_tallest_55 : decode cX8_tallest 55 = .ok (.if_icmp .le 5, 3) := dk_164 0 5 (dk_at dksX8_tallest_2 7 rfl rfl)
theorem dX8_tallest_58 : decode cX8_tallest 58 = .ok (.iload_n 3, 1) := dk_29 (dk_at dksX8_tallest_2 10 rfl rfl)
theorem dX8_tallest_59 : decode cX8_tallest 59 = .ok (.istore_n 2, 1) := dk_61 (dk_at dksX8_tallest_2 11 rfl rfl)
theorem dX8_tallest_60 : decode cX8_tallest 60 = .ok (.iinc 3 1, 3) := dk_132 3 1 (dk_at dksX8_tallest_2 12 rfl rfl)
theorem dX8_tallest_63 : decode cX8_tallest 63 = .ok (.goto (-37), 3) := dk_167 255 219 (dk_at dksX8_tallest_2 15 rfl rfl)
theorem dX8_tallest_66 : decode cX8_tallest 66 = .ok (.iload_n 1, 1) := dk_27 (dk_at dksX8_tallest_2 18 rfl rfl)
theorem dX8_tallest_67 : decode cX8_tallest 67 = .ok (.ifCond .eq 8, 3) := dk_153 0 8 (dk_at dksX8_tallest_2 19 rfl rfl)
theorem dX8_tallest_70 : decode cX8_tallest 70 = .ok (.iload_n 2, 1) := dk_28 (dk_at dksX8_tallest_2 22 rfl rfl)
theorem dX8_tallest_71 : decode cX8_tallest 71 = .ok (.iconst (-1), 1) := dk_2 (dk_at dksX8_tallest_2 23 rfl rfl)
theorem dX8_tallest_72 : decode cX8_tallest 72 = .ok (.if_icmp .ne 7, 3) := dk_160 0 7 (dk_at dksX8_tallest_3 0 rfl rfl)
theorem dX8_tallest_75 : decode cX8_tallest 75 = .ok (.iload_n 2, 1) := dk_28 (dk_at dksX8_tallest_3 3 rfl rfl)
theorem dX8_tallest_76 : decode cX8_tallest 76 = .ok (.goto 11, 3) := dk_167 0 11 (dk_at dksX8_tallest_3 4 rfl rfl)
theorem dX8_tallest_79 : decode cX8_tallest 79 = .ok (.aload_n 0, 1) := dk_42 (dk_at dksX8_tallest_3 7 rfl rfl)
theorem dX8_tallest_80 : decode cX8_tallest 80 = .ok (.getfield 71, 3) := dk_180 0 71 (dk_at dksX8_tallest_3 8 rfl rfl)
theorem dX8_tallest_83 : decode cX8_tallest 83 = .ok (.iconst 0, 1) := dk_3 (dk_at dksX8_tallest_3 11 rfl rfl)
theorem dX8_tallest_84 : decode cX8_tallest 84 = .ok (.iload_n 2, 1) := dk_28 (dk_at dksX8_tallest_3 12 rfl rfl)
theorem dX8_tallest_85 : decode cX8_tallest 85 = .ok (.iadd, 1) := dk_96 (dk_at dksX8_tallest_3 13 rfl rfl)
theorem dX8_tallest_86 : decode cX8_tallest 86 = .ok (.iaload, 1) := dk_46 (dk_at dksX8_tallest_3 14 rfl rfl)
theorem dX8_tallest_87 : decode cX8_tallest 87 = .ok (.ireturn, 1) := dk_172 (dk_at dksX8_tallest_3 15 rfl rfl)
abbrev cX8_gained : ByteArray := prog_24_method_94_code
def yX8_gained : MethodName := ⟨RX8, "gained", "(I)I"⟩
def dkwX8_gained_5 : List UInt8 := [3, 128, 61, 132, 3, 1, 167, 255, 163, 28, 172]
abbrev dktX8_gained_5 : List UInt8 := dkwX8_gained_5 ++ []
def dkwX8_gained_4 : List UInt8 := [21, 5, 153, 0, 22, 42, 180, 0, 74, 16, 14, 29, 96, 46, 2, 159, 0, 9, 4, 29, 120, 167, 0, 4]
abbrev dktX8_gained_4 : List UInt8 := dkwX8_gained_4 ++ dktX8_gained_5
def dkwX8_gained_3 : List UInt8 := [154, 0, 7, 4, 167, 0, 17, 3, 167, 0, 13, 21, 4, 156, 0, 7, 4, 167, 0, 4, 3, 54, 5, 28]
abbrev dktX8_gained_3 : List UInt8 := dkwX8_gained_3 ++ dktX8_gained_4
def dkwX8_gained_2 : List UInt8 := [154, 0, 16, 21, 4, 158, 0, 7, 4, 167, 0, 35, 3, 167, 0, 31, 27, 4, 160, 0, 16, 21, 4]
abbrev dktX8_gained_2 : List UInt8 := dkwX8_gained_2 ++ dktX8_gained_3
def dkwX8_gained_1 : List UInt8 := [182, 1, 59, 3, 61, 3, 62, 29, 42, 180, 0, 179, 162, 0, 91, 42, 29, 182, 1, 90, 54, 4, 27]
abbrev dktX8_gained_1 : List UInt8 := dkwX8_gained_1 ++ dktX8_gained_2
def dkwX8_gained_0 : List UInt8 := [42, 3, 181, 0, 3, 42, 27, 3, 5, 184, 1, 122, 4, 4, 182, 0, 216, 154, 0, 5, 3, 172, 42]
abbrev dktX8_gained_0 : List UInt8 := dkwX8_gained_0 ++ dktX8_gained_1
theorem dksX8_gained_0 : cX8_gained.data.toList.drop 0 = dktX8_gained_0 := by decide +kernel
theorem dksX8_gained_1 : cX8_gained.data.toList.drop 23 = dktX8_gained_1 := dk_seg dksX8_gained_0 23 rfl rfl
theorem dksX8_gained_2 : cX8_gained.data.toList.drop 46 = dktX8_gained_2 := dk_seg dksX8_gained_1 23 rfl rfl
theorem dksX8_gained_3 : cX8_gained.data.toList.drop 69 = dktX8_gained_3 := dk_seg dksX8_gained_2 23 rfl rfl
theorem dksX8_gained_4 : cX8_gained.data.toList.drop 93 = dktX8_gained_4 := dk_seg dksX8_gained_3 24 rfl rfl
theorem dksX8_gained_5 : cX8_gained.data.toList.drop 117 = dktX8_gained_5 := dk_seg dksX8_gained_4 24 rfl rfl
theorem dX8_gained_0 : decode cX8_gained 0 = .ok (.aload_n 0, 1) := dk_42 (dk_at dksX8_gained_0 0 rfl rfl)
theorem dX8_gained_1 : decode cX8_gained 1 = .ok (.iconst 0, 1) := dk_3 (dk_at dksX8_gained_0 1 rfl rfl)
theorem dX8_gained_2 : decode cX8_gained 2 = .ok (.putfield 3, 3) := dk_181 0 3 (dk_at dksX8_gained_0 2 rfl rfl)
theorem dX8_gained_5 : decode cX8_gained 5 = .ok (.aload_n 0, 1) := dk_42 (dk_at dksX8_gained_0 5 rfl rfl)
theorem dX8_gained_6 : decode cX8_gained 6 = .ok (.iload_n 1, 1) := dk_27 (dk_at dksX8_gained_0 6 rfl rfl)
theorem dX8_gained_7 : decode cX8_gained 7 = .ok (.iconst 0, 1) := dk_3 (dk_at dksX8_gained_0 7 rfl rfl)
theorem dX8_gained_8 : decode cX8_gained 8 = .ok (.iconst 2, 1) := dk_5 (dk_at dksX8_gained_0 8 rfl rfl)
theorem dX8_gained_9 : decode cX8_gained 9 = .ok (.invokestatic 378, 3) := dk_184 1 122 (dk_at dksX8_gained_0 9 rfl rfl)
theorem dX8_gained_12 : decode cX8_gained 12 = .ok (.iconst 1, 1) := dk_4 (dk_at dksX8_gained_0 12 rfl rfl)
theorem dX8_gained_13 : decode cX8_gained 13 = .ok (.iconst 1, 1) := dk_4 (dk_at dksX8_gained_0 13 rfl rfl)
theorem dX8_gained_14 : decode cX8_gained 14 = .ok (.invokevirtual 216, 3) := dk_182 0 216 (dk_at dksX8_gained_0 14 rfl rfl)
theorem dX8_gained_17 : decode cX8_gained 17 = .ok (.ifCond .ne 5, 3) := dk_154 0 5 (dk_at dksX8_gained_0 17 rfl rfl)
theorem dX8_gained_20 : decode cX8_gained 20 = .ok (.iconst 0, 1) := dk_3 (dk_at dksX8_gained_0 20 rfl rfl)
theorem dX8_gained_21 : decode cX8_gained 21 = .ok (.ireturn, 1) := dk_172 (dk_at dksX8_gained_0 21 rfl rfl)
theorem dX8_gained_22 : decode cX8_gained 22 = .ok (.aload_n 0, 1) := dk_42 (dk_at dksX8_gained_0 22 rfl rfl)
theorem dX8_gained_23 : decode cX8_gained 23 = .ok (.invokevirtual 315, 3) := dk_182 1 59 (dk_at dksX8_gained_1 0 rfl rfl)
theorem dX8_gained_26 : decode cX8_gained 26 = .ok (.iconst 0, 1) := dk_3 (dk_at dksX8_gained_1 3 rfl rfl)
theorem dX8_gained_27 : decode cX8_gained 27 = .ok (.istore_n 2, 1) := dk_61 (dk_at dksX8_gained_1 4 rfl rfl)
theorem dX8_gained_28 : decode cX8_gained 28 = .ok (.iconst 0, 1) := dk_3 (dk_at dksX8_gained_1 5 rfl rfl)
theorem dX8_gained_29 : decode cX8_gained 29 = .ok (.istore_n 3, 1) := dk_62 (dk_at dksX8_gained_1 6 rfl rfl)
theorem dX8_gained_30 : decode cX8_gained 30 = .ok (.iload_n 3, 1) := dk_29 (dk_at dksX8_gained_1 7 rfl rfl)
theorem dX8_gained_31 : decode cX8_gained 31 = .ok (.aload_n 0, 1) := dk_42 (dk_at dksX8_gained_1 8 rfl rfl)
theorem dX8_gained_32 : decode cX8_gained 32 = .ok (.getfield 179, 3) := dk_180 0 179 (dk_at dksX8_gained_1 9 rfl rfl)
theorem dX8_gained_35 : decode cX8_gained 35 = .ok (.if_icmp .ge 91, 3) := dk_162 0 91 (dk_at dksX8_gained_1 12 rfl rfl)
theorem dX8_gained_38 : decode cX8_gained 38 = .ok (.aload_n 0, 1) := dk_42 (dk_at dksX8_gained_1 15 rfl rfl)
theorem dX8_gained_39 : decode cX8_gained 39 = .ok (.iload_n 3, 1) := dk_29 (dk_at dksX8_gained_1 16 rfl rfl)
theorem dX8_gained_40 : decode cX8_gained 40 = .ok (.invokevirtual 346, 3) := dk_182 1 90 (dk_at dksX8_gained_1 17 rfl rfl)
theorem dX8_gained_43 : decode cX8_gained 43 = .ok (.istore 4, 2) := dk_54 4 (dk_at dksX8_gained_1 20 rfl rfl)
theorem dX8_gained_45 : decode cX8_gained 45 = .ok (.iload_n 1, 1) := dk_27 (dk_at dksX8_gained_1 22 rfl rfl)
theorem dX8_gained_46 : decode cX8_gained 46 = .ok (.ifCond .ne 16, 3) := dk_154 0 16 (dk_at dksX8_gained_2 0 rfl rfl)
theorem dX8_gained_49 : decode cX8_gained 49 = .ok (.iload 4, 2) := dk_21 4 (dk_at dksX8_gained_2 3 rfl rfl)
theorem dX8_gained_51 : decode cX8_gained 51 = .ok (.ifCond .le 7, 3) := dk_158 0 7 (dk_at dksX8_gained_2 5 rfl rfl)
theorem dX8_gained_54 : decode cX8_gained 54 = .ok (.iconst 1, 1) := dk_4 (dk_at dksX8_gained_2 8 rfl rfl)
theorem dX8_gained_55 : decode cX8_gained 55 = .ok (.goto 35, 3) := dk_167 0 35 (dk_at dksX8_gained_2 9 rfl rfl)
theorem dX8_gained_58 : decode cX8_gained 58 = .ok (.iconst 0, 1) := dk_3 (dk_at dksX8_gained_2 12 rfl rfl)
theorem dX8_gained_59 : decode cX8_gained 59 = .ok (.goto 31, 3) := dk_167 0 31 (dk_at dksX8_gained_2 13 rfl rfl)
theorem dX8_gained_62 : decode cX8_gained 62 = .ok (.iload_n 1, 1) := dk_27 (dk_at dksX8_gained_2 16 rfl rfl)
theorem dX8_gained_63 : decode cX8_gained 63 = .ok (.iconst 1, 1) := dk_4 (dk_at dksX8_gained_2 17 rfl rfl)
theorem dX8_gained_64 : decode cX8_gained 64 = .ok (.if_icmp .ne 16, 3) := dk_160 0 16 (dk_at dksX8_gained_2 18 rfl rfl)
theorem dX8_gained_67 : decode cX8_gained 67 = .ok (.iload 4, 2) := dk_21 4 (dk_at dksX8_gained_2 21 rfl rfl)
theorem dX8_gained_69 : decode cX8_gained 69 = .ok (.ifCond .ne 7, 3) := dk_154 0 7 (dk_at dksX8_gained_3 0 rfl rfl)
theorem dX8_gained_72 : decode cX8_gained 72 = .ok (.iconst 1, 1) := dk_4 (dk_at dksX8_gained_3 3 rfl rfl)
theorem dX8_gained_73 : decode cX8_gained 73 = .ok (.goto 17, 3) := dk_167 0 17 (dk_at dksX8_gained_3 4 rfl rfl)
theorem dX8_gained_76 : decode cX8_gained 76 = .ok (.iconst 0, 1) := dk_3 (dk_at dksX8_gained_3 7 rfl rfl)
theorem dX8_gained_77 : decode cX8_gained 77 = .ok (.goto 13, 3) := dk_167 0 13 (dk_at dksX8_gained_3 8 rfl rfl)
theorem dX8_gained_80 : decode cX8_gained 80 = .ok (.iload 4, 2) := dk_21 4 (dk_at dksX8_gained_3 11 rfl rfl)
theorem dX8_gained_82 : decode cX8_gained 82 = .ok (.ifCond .ge 7, 3) := dk_156 0 7 (dk_at dksX8_gained_3 13 rfl rfl)
theorem dX8_gained_85 : decode cX8_gained 85 = .ok (.iconst 1, 1) := dk_4 (dk_at dksX8_gained_3 16 rfl rfl)
theorem dX8_gained_86 : decode cX8_gained 86 = .ok (.goto 4, 3) := dk_167 0 4 (dk_at dksX8_gained_3 17 rfl rfl)
theorem dX8_gained_89 : decode cX8_gained 89 = .ok (.iconst 0, 1) := dk_3 (dk_at dksX8_gained_3 20 rfl rfl)
theorem dX8_gained_90 : decode cX8_gained 90 = .ok (.istore 5, 2) := dk_54 5 (dk_at dksX8_gained_3 21 rfl rfl)
theorem dX8_gained_92 : decode cX8_gained 92 = .ok (.iload_n 2, 1) := dk_28 (dk_at dksX8_gained_3 23 rfl rfl)
theorem dX8_gained_93 : decode cX8_gained 93 = .ok (.iload 5, 2) := dk_21 5 (dk_at dksX8_gained_4 0 rfl rfl)
theorem dX8_gained_95 : decode cX8_gained 95 = .ok (.ifCond .eq 22, 3) := dk_153 0 22 (dk_at dksX8_gained_4 2 rfl rfl)
theorem dX8_gained_98 : decode cX8_gained 98 = .ok (.aload_n 0, 1) := dk_42 (dk_at dksX8_gained_4 5 rfl rfl)
theorem dX8_gained_99 : decode cX8_gained 99 = .ok (.getfield 74, 3) := dk_180 0 74 (dk_at dksX8_gained_4 6 rfl rfl)
theorem dX8_gained_102 : decode cX8_gained 102 = .ok (.bipush 14, 2) := dk_16 14 (dk_at dksX8_gained_4 9 rfl rfl)
theorem dX8_gained_104 : decode cX8_gained 104 = .ok (.iload_n 3, 1) := dk_29 (dk_at dksX8_gained_4 11 rfl rfl)
theorem dX8_gained_105 : decode cX8_gained 105 = .ok (.iadd, 1) := dk_96 (dk_at dksX8_gained_4 12 rfl rfl)
theorem dX8_gained_106 : decode cX8_gained 106 = .ok (.iaload, 1) := dk_46 (dk_at dksX8_gained_4 13 rfl rfl)
theorem dX8_gained_107 : decode cX8_gained 107 = .ok (.iconst (-1), 1) := dk_2 (dk_at dksX8_gained_4 14 rfl rfl)
theorem dX8_gained_108 : decode cX8_gained 108 = .ok (.if_icmp .eq 9, 3) := dk_159 0 9 (dk_at dksX8_gained_4 15 rfl rfl)
theorem dX8_gained_111 : decode cX8_gained 111 = .ok (.iconst 1, 1) := dk_4 (dk_at dksX8_gained_4 18 rfl rfl)
theorem dX8_gained_112 : decode cX8_gained 112 = .ok (.iload_n 3, 1) := dk_29 (dk_at dksX8_gained_4 19 rfl rfl)
theorem dX8_gained_113 : decode cX8_gained 113 = .ok (.ishl, 1) := dk_120 (dk_at dksX8_gained_4 20 rfl rfl)
theorem dX8_gained_114 : decode cX8_gained 114 = .ok (.goto 4, 3) := dk_167 0 4 (dk_at dksX8_gained_4 21 rfl rfl)
theorem dX8_gained_117 : decode cX8_gained 117 = .ok (.iconst 0, 1) := dk_3 (dk_at dksX8_gained_5 0 rfl rfl)
theorem dX8_gained_118 : decode cX8_gained 118 = .ok (.ior, 1) := dk_128 (dk_at dksX8_gained_5 1 rfl rfl)
theorem dX8_gained_119 : decode cX8_gained 119 = .ok (.istore_n 2, 1) := dk_61 (dk_at dksX8_gained_5 2 rfl rfl)
theorem dX8_gained_120 : decode cX8_gained 120 = .ok (.iinc 3 1, 3) := dk_132 3 1 (dk_at dksX8_gained_5 3 rfl rfl)
theorem dX8_gained_123 : decode cX8_gained 123 = .ok (.goto (-93), 3) := dk_167 255 163 (dk_at dksX8_gained_5 6 rfl rfl)
theorem dX8_gained_126 : decode cX8_gained 126 = .ok (.iload_n 2, 1) := dk_28 (dk_at dksX8_gained_5 9 rfl rfl)
theorem dX8_gained_127 : decode cX8_gained 127 = .ok (.ireturn, 1) := dk_172 (dk_at dksX8_gained_5 10 rfl rfl)
abbrev cX8_lies : ByteArray := prog_24_method_95_code
def yX8_lies : MethodName := ⟨RX8, "lies", "(I)I"⟩
def dkwX8_lies_1 : List UInt8 := [42, 182, 1, 59, 42, 27, 182, 1, 106, 172]
abbrev dktX8_lies_1 : List UInt8 := dkwX8_lies_1 ++ []
def dkwX8_lies_0 : List UInt8 := [42, 3, 181, 0, 3, 42, 27, 3, 17, 23, 106, 184, 1, 122, 4, 4, 182, 0, 216, 154, 0, 5, 3, 172]
abbrev dktX8_lies_0 : List UInt8 := dkwX8_lies_0 ++ dktX8_lies_1
theorem dksX8_lies_0 : cX8_lies.data.toList.drop 0 = dktX8_lies_0 := by decide +kernel
theorem dksX8_lies_1 : cX8_lies.data.toList.drop 24 = dktX8_lies_1 := dk_seg dksX8_lies_0 24 rfl rfl
theorem dX8_lies_0 : decode cX8_lies 0 = .ok (.aload_n 0, 1) := dk_42 (dk_at dksX8_lies_0 0 rfl rfl)
theorem dX8_lies_1 : decode cX8_lies 1 = .ok (.iconst 0, 1) := dk_3 (dk_at dksX8_lies_0 1 rfl rfl)
theorem dX8_lies_2 : decode cX8_lies 2 = .ok (.putfield 3, 3) := dk_181 0 3 (dk_at dksX8_lies_0 2 rfl rfl)
theorem dX8_lies_5 : decode cX8_lies 5 = .ok (.aload_n 0, 1) := dk_42 (dk_at dksX8_lies_0 5 rfl rfl)
theorem dX8_lies_6 : decode cX8_lies 6 = .ok (.iload_n 1, 1) := dk_27 (dk_at dksX8_lies_0 6 rfl rfl)
theorem dX8_lies_7 : decode cX8_lies 7 = .ok (.iconst 0, 1) := dk_3 (dk_at dksX8_lies_0 7 rfl rfl)
theorem dX8_lies_8 : decode cX8_lies 8 = .ok (.sipush 5994, 3) := dk_17 23 106 (dk_at dksX8_lies_0 8 rfl rfl)
theorem dX8_lies_11 : decode cX8_lies 11 = .ok (.invokestatic 378, 3) := dk_184 1 122 (dk_at dksX8_lies_0 11 rfl rfl)
theorem dX8_lies_14 : decode cX8_lies 14 = .ok (.iconst 1, 1) := dk_4 (dk_at dksX8_lies_0 14 rfl rfl)
theorem dX8_lies_15 : decode cX8_lies 15 = .ok (.iconst 1, 1) := dk_4 (dk_at dksX8_lies_0 15 rfl rfl)
theorem dX8_lies_16 : decode cX8_lies 16 = .ok (.invokevirtual 216, 3) := dk_182 0 216 (dk_at dksX8_lies_0 16 rfl rfl)
theorem dX8_lies_19 : decode cX8_lies 19 = .ok (.ifCond .ne 5, 3) := dk_154 0 5 (dk_at dksX8_lies_0 19 rfl rfl)
theorem dX8_lies_22 : decode cX8_lies 22 = .ok (.iconst 0, 1) := dk_3 (dk_at dksX8_lies_0 22 rfl rfl)
theorem dX8_lies_23 : decode cX8_lies 23 = .ok (.ireturn, 1) := dk_172 (dk_at dksX8_lies_0 23 rfl rfl)
theorem dX8_lies_24 : decode cX8_lies 24 = .ok (.aload_n 0, 1) := dk_42 (dk_at dksX8_lies_1 0 rfl rfl)
theorem dX8_lies_25 : decode cX8_lies 25 = .ok (.invokevirtual 315, 3) := dk_182 1 59 (dk_at dksX8_lies_1 1 rfl rfl)
theorem dX8_lies_28 : decode cX8_lies 28 = .ok (.aload_n 0, 1) := dk_42 (dk_at dksX8_lies_1 4 rfl rfl)
theorem dX8_lies_29 : decode cX8_lies 29 = .ok (.iload_n 1, 1) := dk_27 (dk_at dksX8_lies_1 5 rfl rfl)
theorem dX8_lies_30 : decode cX8_lies 30 = .ok (.invokevirtual 362, 3) := dk_182 1 106 (dk_at dksX8_lies_1 6 rfl rfl)
theorem dX8_lies_33 : decode cX8_lies 33 = .ok (.ireturn, 1) := dk_172 (dk_at dksX8_lies_1 9 rfl rfl)
abbrev cX8_swells : ByteArray := prog_24_method_96_code
def yX8_swells : MethodName := ⟨RX8, "swells", "(I)I"⟩
def dkwX8_swells_2 : List UInt8 := [167, 0, 4, 28, 172]
abbrev dktX8_swells_2 : List UInt8 := dkwX8_swells_2 ++ []
def dkwX8_swells_1 : List UInt8 := [182, 1, 103, 61, 17, 3, 231, 42, 180, 0, 74, 16, 42, 27, 96, 46, 100, 62, 28, 29, 164, 0, 7, 29]
abbrev dktX8_swells_1 : List UInt8 := dkwX8_swells_1 ++ dktX8_swells_2
def dkwX8_swells_0 : List UInt8 := [42, 3, 181, 0, 3, 42, 27, 4, 182, 1, 131, 154, 0, 5, 3, 172, 42, 182, 1, 59, 42, 27]
abbrev dktX8_swells_0 : List UInt8 := dkwX8_swells_0 ++ dktX8_swells_1
theorem dksX8_swells_0 : cX8_swells.data.toList.drop 0 = dktX8_swells_0 := by decide +kernel
theorem dksX8_swells_1 : cX8_swells.data.toList.drop 22 = dktX8_swells_1 := dk_seg dksX8_swells_0 22 rfl rfl
theorem dksX8_swells_2 : cX8_swells.data.toList.drop 46 = dktX8_swells_2 := dk_seg dksX8_swells_1 24 rfl rfl
theorem dX8_swells_0 : decode cX8_swells 0 = .ok (.aload_n 0, 1) := dk_42 (dk_at dksX8_swells_0 0 rfl rfl)
theorem dX8_swells_1 : decode cX8_swells 1 = .ok (.iconst 0, 1) := dk_3 (dk_at dksX8_swells_0 1 rfl rfl)
theorem dX8_swells_2 : decode cX8_swells 2 = .ok (.putfield 3, 3) := dk_181 0 3 (dk_at dksX8_swells_0 2 rfl rfl)
theorem dX8_swells_5 : decode cX8_swells 5 = .ok (.aload_n 0, 1) := dk_42 (dk_at dksX8_swells_0 5 rfl rfl)
theorem dX8_swells_6 : decode cX8_swells 6 = .ok (.iload_n 1, 1) := dk_27 (dk_at dksX8_swells_0 6 rfl rfl)
theorem dX8_swells_7 : decode cX8_swells 7 = .ok (.iconst 1, 1) := dk_4 (dk_at dksX8_swells_0 7 rfl rfl)
theorem dX8_swells_8 : decode cX8_swells 8 = .ok (.invokevirtual 387, 3) := dk_182 1 131 (dk_at dksX8_swells_0 8 rfl rfl)
theorem dX8_swells_11 : decode cX8_swells 11 = .ok (.ifCond .ne 5, 3) := dk_154 0 5 (dk_at dksX8_swells_0 11 rfl rfl)
theorem dX8_swells_14 : decode cX8_swells 14 = .ok (.iconst 0, 1) := dk_3 (dk_at dksX8_swells_0 14 rfl rfl)
theorem dX8_swells_15 : decode cX8_swells 15 = .ok (.ireturn, 1) := dk_172 (dk_at dksX8_swells_0 15 rfl rfl)
theorem dX8_swells_16 : decode cX8_swells 16 = .ok (.aload_n 0, 1) := dk_42 (dk_at dksX8_swells_0 16 rfl rfl)
theorem dX8_swells_17 : decode cX8_swells 17 = .ok (.invokevirtual 315, 3) := dk_182 1 59 (dk_at dksX8_swells_0 17 rfl rfl)
theorem dX8_swells_20 : decode cX8_swells 20 = .ok (.aload_n 0, 1) := dk_42 (dk_at dksX8_swells_0 20 rfl rfl)
theorem dX8_swells_21 : decode cX8_swells 21 = .ok (.iload_n 1, 1) := dk_27 (dk_at dksX8_swells_0 21 rfl rfl)
theorem dX8_swells_22 : decode cX8_swells 22 = .ok (.invokevirtual 359, 3) := dk_182 1 103 (dk_at dksX8_swells_1 0 rfl rfl)
theorem dX8_swells_25 : decode cX8_swells 25 = .ok (.istore_n 2, 1) := dk_61 (dk_at dksX8_swells_1 3 rfl rfl)
theorem dX8_swells_26 : decode cX8_swells 26 = .ok (.sipush 999, 3) := dk_17 3 231 (dk_at dksX8_swells_1 4 rfl rfl)
theorem dX8_swells_29 : decode cX8_swells 29 = .ok (.aload_n 0, 1) := dk_42 (dk_at dksX8_swells_1 7 rfl rfl)
theorem dX8_swells_30 : decode cX8_swells 30 = .ok (.getfield 74, 3) := dk_180 0 74 (dk_at dksX8_swells_1 8 rfl rfl)
theorem dX8_swells_33 : decode cX8_swells 33 = .ok (.bipush 42, 2) := dk_16 42 (dk_at dksX8_swells_1 11 rfl rfl)
theorem dX8_swells_35 : decode cX8_swells 35 = .ok (.iload_n 1, 1) := dk_27 (dk_at dksX8_swells_1 13 rfl rfl)
theorem dX8_swells_36 : decode cX8_swells 36 = .ok (.iadd, 1) := dk_96 (dk_at dksX8_swells_1 14 rfl rfl)
theorem dX8_swells_37 : decode cX8_swells 37 = .ok (.iaload, 1) := dk_46 (dk_at dksX8_swells_1 15 rfl rfl)
theorem dX8_swells_38 : decode cX8_swells 38 = .ok (.isub, 1) := dk_100 (dk_at dksX8_swells_1 16 rfl rfl)
theorem dX8_swells_39 : decode cX8_swells 39 = .ok (.istore_n 3, 1) := dk_62 (dk_at dksX8_swells_1 17 rfl rfl)
theorem dX8_swells_40 : decode cX8_swells 40 = .ok (.iload_n 2, 1) := dk_28 (dk_at dksX8_swells_1 18 rfl rfl)
theorem dX8_swells_41 : decode cX8_swells 41 = .ok (.iload_n 3, 1) := dk_29 (dk_at dksX8_swells_1 19 rfl rfl)
theorem dX8_swells_42 : decode cX8_swells 42 = .ok (.if_icmp .le 7, 3) := dk_164 0 7 (dk_at dksX8_swells_1 20 rfl rfl)
theorem dX8_swells_45 : decode cX8_swells 45 = .ok (.iload_n 3, 1) := dk_29 (dk_at dksX8_swells_1 23 rfl rfl)
theorem dX8_swells_46 : decode cX8_swells 46 = .ok (.goto 4, 3) := dk_167 0 4 (dk_at dksX8_swells_2 0 rfl rfl)
theorem dX8_swells_49 : decode cX8_swells 49 = .ok (.iload_n 2, 1) := dk_28 (dk_at dksX8_swells_2 3 rfl rfl)
theorem dX8_swells_50 : decode cX8_swells 50 = .ok (.ireturn, 1) := dk_172 (dk_at dksX8_swells_2 4 rfl rfl)
abbrev cX8_heads : ByteArray := prog_24_method_97_code
def yX8_heads : MethodName := ⟨RX8, "heads", "(I)I"⟩
def dkwX8_heads_6 : List UInt8 := [167, 255, 142, 28, 172]
abbrev dktX8_heads_6 : List UInt8 := dkwX8_heads_6 ++ []
def dkwX8_heads_5 : List UInt8 := [154, 0, 17, 167, 0, 8, 21, 4, 153, 0, 9, 4, 29, 120, 167, 0, 4, 3, 128, 61, 132, 3, 1]
abbrev dktX8_heads_5 : List UInt8 := dkwX8_heads_5 ++ dktX8_heads_6
def dkwX8_heads_4 : List UInt8 := [164, 0, 6, 3, 54, 4, 132, 5, 1, 167, 255, 206, 28, 27, 154, 0, 15, 42, 180, 0, 41, 29, 46]
abbrev dktX8_heads_4 : List UInt8 := dkwX8_heads_4 ++ dktX8_heads_5
def dkwX8_heads_3 : List UInt8 := [126, 4, 160, 0, 26, 42, 180, 0, 71, 3, 21, 5, 96, 46, 42, 180, 0, 71, 3, 29, 96, 46]
abbrev dktX8_heads_3 : List UInt8 := dkwX8_heads_3 ++ dktX8_heads_4
def dkwX8_heads_2 : List UInt8 := [54, 4, 3, 54, 5, 21, 5, 42, 180, 0, 179, 162, 0, 47, 42, 180, 0, 41, 29, 46, 21, 5, 122, 4]
abbrev dktX8_heads_2 : List UInt8 := dkwX8_heads_2 ++ dktX8_heads_3
def dkwX8_heads_1 : List UInt8 := [3, 62, 29, 42, 180, 0, 179, 162, 0, 112, 42, 180, 0, 41, 29, 46, 153, 0, 7, 4, 167, 0, 4, 3]
abbrev dktX8_heads_1 : List UInt8 := dkwX8_heads_1 ++ dktX8_heads_2
def dkwX8_heads_0 : List UInt8 := [42, 3, 181, 0, 3, 42, 27, 3, 4, 184, 1, 122, 4, 4, 182, 0, 216, 154, 0, 5, 3, 172, 3, 61]
abbrev dktX8_heads_0 : List UInt8 := dkwX8_heads_0 ++ dktX8_heads_1
theorem dksX8_heads_0 : cX8_heads.data.toList.drop 0 = dktX8_heads_0 := by decide +kernel
theorem dksX8_heads_1 : cX8_heads.data.toList.drop 24 = dktX8_heads_1 := dk_seg dksX8_heads_0 24 rfl rfl
theorem dksX8_heads_2 : cX8_heads.data.toList.drop 48 = dktX8_heads_2 := dk_seg dksX8_heads_1 24 rfl rfl
theorem dksX8_heads_3 : cX8_heads.data.toList.drop 72 = dktX8_heads_3 := dk_seg dksX8_heads_2 24 rfl rfl
theorem dksX8_heads_4 : cX8_heads.data.toList.drop 94 = dktX8_heads_4 := dk_seg dksX8_heads_3 22 rfl rfl
theorem dksX8_heads_5 : cX8_heads.data.toList.drop 117 = dktX8_heads_5 := dk_seg dksX8_heads_4 23 rfl rfl
theorem dksX8_heads_6 : cX8_heads.data.toList.drop 140 = dktX8_heads_6 := dk_seg dksX8_heads_5 23 rfl rfl
theorem dX8_heads_0 : decode cX8_heads 0 = .ok (.aload_n 0, 1) := dk_42 (dk_at dksX8_heads_0 0 rfl rfl)
theorem dX8_heads_1 : decode cX8_heads 1 = .ok (.iconst 0, 1) := dk_3 (dk_at dksX8_heads_0 1 rfl rfl)
theorem dX8_heads_2 : decode cX8_heads 2 = .ok (.putfield 3, 3) := dk_181 0 3 (dk_at dksX8_heads_0 2 rfl rfl)
theorem dX8_heads_5 : decode cX8_heads 5 = .ok (.aload_n 0, 1) := dk_42 (dk_at dksX8_heads_0 5 rfl rfl)
theorem dX8_heads_6 : decode cX8_heads 6 = .ok (.iload_n 1, 1) := dk_27 (dk_at dksX8_heads_0 6 rfl rfl)
theorem dX8_heads_7 : decode cX8_heads 7 = .ok (.iconst 0, 1) := dk_3 (dk_at dksX8_heads_0 7 rfl rfl)
theorem dX8_heads_8 : decode cX8_heads 8 = .ok (.iconst 1, 1) := dk_4 (dk_at dksX8_heads_0 8 rfl rfl)
theorem dX8_heads_9 : decode cX8_heads 9 = .ok (.invokestatic 378, 3) := dk_184 1 122 (dk_at dksX8_heads_0 9 rfl rfl)
theorem dX8_heads_12 : decode cX8_heads 12 = .ok (.iconst 1, 1) := dk_4 (dk_at dksX8_heads_0 12 rfl rfl)
theorem dX8_heads_13 : decode cX8_heads 13 = .ok (.iconst 1, 1) := dk_4 (dk_at dksX8_heads_0 13 rfl rfl)
theorem dX8_heads_14 : decode cX8_heads 14 = .ok (.invokevirtual 216, 3) := dk_182 0 216 (dk_at dksX8_heads_0 14 rfl rfl)
theorem dX8_heads_17 : decode cX8_heads 17 = .ok (.ifCond .ne 5, 3) := dk_154 0 5 (dk_at dksX8_heads_0 17 rfl rfl)
theorem dX8_heads_20 : decode cX8_heads 20 = .ok (.iconst 0, 1) := dk_3 (dk_at dksX8_heads_0 20 rfl rfl)
theorem dX8_heads_21 : decode cX8_heads 21 = .ok (.ireturn, 1) := dk_172 (dk_at dksX8_heads_0 21 rfl rfl)
theorem dX8_heads_22 : decode cX8_heads 22 = .ok (.iconst 0, 1) := dk_3 (dk_at dksX8_heads_0 22 rfl rfl)
theorem dX8_heads_23 : decode cX8_heads 23 = .ok (.istore_n 2, 1) := dk_61 (dk_at dksX8_heads_0 23 rfl rfl)
theorem dX8_heads_24 : decode cX8_heads 24 = .ok (.iconst 0, 1) := dk_3 (dk_at dksX8_heads_1 0 rfl rfl)
theorem dX8_heads_25 : decode cX8_heads 25 = .ok (.istore_n 3, 1) := dk_62 (dk_at dksX8_heads_1 1 rfl rfl)
theorem dX8_heads_26 : decode cX8_heads 26 = .ok (.iload_n 3, 1) := dk_29 (dk_at dksX8_heads_1 2 rfl rfl)
theorem dX8_heads_27 : decode cX8_heads 27 = .ok (.aload_n 0, 1) := dk_42 (dk_at dksX8_heads_1 3 rfl rfl)
theorem dX8_heads_28 : decode cX8_heads 28 = .ok (.getfield 179, 3) := dk_180 0 179 (dk_at dksX8_heads_1 4 rfl rfl)
theorem dX8_heads_31 : decode cX8_heads 31 = .ok (.if_icmp .ge 112, 3) := dk_162 0 112 (dk_at dksX8_heads_1 7 rfl rfl)
theorem dX8_heads_34 : decode cX8_heads 34 = .ok (.aload_n 0, 1) := dk_42 (dk_at dksX8_heads_1 10 rfl rfl)
theorem dX8_heads_35 : decode cX8_heads 35 = .ok (.getfield 41, 3) := dk_180 0 41 (dk_at dksX8_heads_1 11 rfl rfl)
theorem dX8_heads_38 : decode cX8_heads 38 = .ok (.iload_n 3, 1) := dk_29 (dk_at dksX8_heads_1 14 rfl rfl)
theorem dX8_heads_39 : decode cX8_heads 39 = .ok (.iaload, 1) := dk_46 (dk_at dksX8_heads_1 15 rfl rfl)
theorem dX8_heads_40 : decode cX8_heads 40 = .ok (.ifCond .eq 7, 3) := dk_153 0 7 (dk_at dksX8_heads_1 16 rfl rfl)
theorem dX8_heads_43 : decode cX8_heads 43 = .ok (.iconst 1, 1) := dk_4 (dk_at dksX8_heads_1 19 rfl rfl)
theorem dX8_heads_44 : decode cX8_heads 44 = .ok (.goto 4, 3) := dk_167 0 4 (dk_at dksX8_heads_1 20 rfl rfl)
theorem dX8_heads_47 : decode cX8_heads 47 = .ok (.iconst 0, 1) := dk_3 (dk_at dksX8_heads_1 23 rfl rfl)
theorem dX8_heads_48 : decode cX8_heads 48 = .ok (.istore 4, 2) := dk_54 4 (dk_at dksX8_heads_2 0 rfl rfl)
theorem dX8_heads_50 : decode cX8_heads 50 = .ok (.iconst 0, 1) := dk_3 (dk_at dksX8_heads_2 2 rfl rfl)
theorem dX8_heads_51 : decode cX8_heads 51 = .ok (.istore 5, 2) := dk_54 5 (dk_at dksX8_heads_2 3 rfl rfl)
theorem dX8_heads_53 : decode cX8_heads 53 = .ok (.iload 5, 2) := dk_21 5 (dk_at dksX8_heads_2 5 rfl rfl)
theorem dX8_heads_55 : decode cX8_heads 55 = .ok (.aload_n 0, 1) := dk_42 (dk_at dksX8_heads_2 7 rfl rfl)
theorem dX8_heads_56 : decode cX8_heads 56 = .ok (.getfield 179, 3) := dk_180 0 179 (dk_at dksX8_heads_2 8 rfl rfl)
theorem dX8_heads_59 : decode cX8_heads 59 = .ok (.if_icmp .ge 47, 3) := dk_162 0 47 (dk_at dksX8_heads_2 11 rfl rfl)
theorem dX8_heads_62 : decode cX8_heads 62 = .ok (.aload_n 0, 1) := dk_42 (dk_at dksX8_heads_2 14 rfl rfl)
theorem dX8_heads_63 : decode cX8_heads 63 = .ok (.getfield 41, 3) := dk_180 0 41 (dk_at dksX8_heads_2 15 rfl rfl)
theorem dX8_heads_66 : decode cX8_heads 66 = .ok (.iload_n 3, 1) := dk_29 (dk_at dksX8_heads_2 18 rfl rfl)
theorem dX8_heads_67 : decode cX8_heads 67 = .ok (.iaload, 1) := dk_46 (dk_at dksX8_heads_2 19 rfl rfl)
theorem dX8_heads_68 : decode cX8_heads 68 = .ok (.iload 5, 2) := dk_21 5 (dk_at dksX8_heads_2 20 rfl rfl)
theorem dX8_heads_70 : decode cX8_heads 70 = .ok (.ishr, 1) := dk_122 (dk_at dksX8_heads_2 22 rfl rfl)
theorem dX8_heads_71 : decode cX8_heads 71 = .ok (.iconst 1, 1) := dk_4 (dk_at dksX8_heads_2 23 rfl rfl)
theorem dX8_heads_72 : decode cX8_heads 72 = .ok (.iand, 1) := dk_126 (dk_at dksX8_heads_3 0 rfl rfl)
theorem dX8_heads_73 : decode cX8_heads 73 = .ok (.iconst 1, 1) := dk_4 (dk_at dksX8_heads_3 1 rfl rfl)
theorem dX8_heads_74 : decode cX8_heads 74 = .ok (.if_icmp .ne 26, 3) := dk_160 0 26 (dk_at dksX8_heads_3 2 rfl rfl)
theorem dX8_heads_77 : decode cX8_heads 77 = .ok (.aload_n 0, 1) := dk_42 (dk_at dksX8_heads_3 5 rfl rfl)
theorem dX8_heads_78 : decode cX8_heads 78 = .ok (.getfield 71, 3) := dk_180 0 71 (dk_at dksX8_heads_3 6 rfl rfl)
theorem dX8_heads_81 : decode cX8_heads 81 = .ok (.iconst 0, 1) := dk_3 (dk_at dksX8_heads_3 9 rfl rfl)
theorem dX8_heads_82 : decode cX8_heads 82 = .ok (.iload 5, 2) := dk_21 5 (dk_at dksX8_heads_3 10 rfl rfl)
theorem dX8_heads_84 : decode cX8_heads 84 = .ok (.iadd, 1) := dk_96 (dk_at dksX8_heads_3 12 rfl rfl)
theorem dX8_heads_85 : decode cX8_heads 85 = .ok (.iaload, 1) := dk_46 (dk_at dksX8_heads_3 13 rfl rfl)
theorem dX8_heads_86 : decode cX8_heads 86 = .ok (.aload_n 0, 1) := dk_42 (dk_at dksX8_heads_3 14 rfl rfl)
theorem dX8_heads_87 : decode cX8_heads 87 = .ok (.getfield 71, 3) := dk_180 0 71 (dk_at dksX8_heads_3 15 rfl rfl)
theorem dX8_heads_90 : decode cX8_heads 90 = .ok (.iconst 0, 1) := dk_3 (dk_at dksX8_heads_3 18 rfl rfl)
theorem dX8_heads_91 : decode cX8_heads 91 = .ok (.iload_n 3, 1) := dk_29 (dk_at dksX8_heads_3 19 rfl rfl)
theorem dX8_heads_92 : decode cX8_heads 92 = .ok (.iadd, 1) := dk_96 (dk_at dksX8_heads_3 20 rfl rfl)
theorem dX8_heads_93 : decode cX8_heads 93 = .ok (.iaload, 1) := dk_46 (dk_at dksX8_heads_3 21 rfl rfl)
theorem dX8_heads_94 : decode cX8_heads 94 = .ok (.if_icmp .le 6, 3) := dk_164 0 6 (dk_at dksX8_heads_4 0 rfl rfl)
theorem dX8_heads_97 : decode cX8_heads 97 = .ok (.iconst 0, 1) := dk_3 (dk_at dksX8_heads_4 3 rfl rfl)
theorem dX8_heads_98 : decode cX8_heads 98 = .ok (.istore 4, 2) := dk_54 4 (dk_at dksX8_heads_4 4 rfl rfl)
theorem dX8_heads_100 : decode cX8_heads 100 = .ok (.iinc 5 1, 3) := dk_132 5 1 (dk_at dksX8_heads_4 6 rfl rfl)
theorem dX8_heads_103 : decode cX8_heads 103 = .ok (.goto (-50), 3) := dk_167 255 206 (dk_at dksX8_heads_4 9 rfl rfl)
theorem dX8_heads_106 : decode cX8_heads 106 = .ok (.iload_n 2, 1) := dk_28 (dk_at dksX8_heads_4 12 rfl rfl)
theorem dX8_heads_107 : decode cX8_heads 107 = .ok (.iload_n 1, 1) := dk_27 (dk_at dksX8_heads_4 13 rfl rfl)
theorem dX8_heads_108 : decode cX8_heads 108 = .ok (.ifCond .ne 15, 3) := dk_154 0 15 (dk_at dksX8_heads_4 14 rfl rfl)
theorem dX8_heads_111 : decode cX8_heads 111 = .ok (.aload_n 0, 1) := dk_42 (dk_at dksX8_heads_4 17 rfl rfl)
theorem dX8_heads_112 : decode cX8_heads 112 = .ok (.getfield 41, 3) := dk_180 0 41 (dk_at dksX8_heads_4 18 rfl rfl)
theorem dX8_heads_115 : decode cX8_heads 115 = .ok (.iload_n 3, 1) := dk_29 (dk_at dksX8_heads_4 21 rfl rfl)
theorem dX8_heads_116 : decode cX8_heads 116 = .ok (.iaload, 1) := dk_46 (dk_at dksX8_heads_4 22 rfl rfl)
theorem dX8_heads_117 : decode cX8_heads 117 = .ok (.ifCond .ne 17, 3) := dk_154 0 17 (dk_at dksX8_heads_5 0 rfl rfl)
theorem dX8_heads_120 : decode cX8_heads 120 = .ok (.goto 8, 3) := dk_167 0 8 (dk_at dksX8_heads_5 3 rfl rfl)
theorem dX8_heads_123 : decode cX8_heads 123 = .ok (.iload 4, 2) := dk_21 4 (dk_at dksX8_heads_5 6 rfl rfl)
theorem dX8_heads_125 : decode cX8_heads 125 = .ok (.ifCond .eq 9, 3) := dk_153 0 9 (dk_at dksX8_heads_5 8 rfl rfl)
theorem dX8_heads_128 : decode cX8_heads 128 = .ok (.iconst 1, 1) := dk_4 (dk_at dksX8_heads_5 11 rfl rfl)
theorem dX8_heads_129 : decode cX8_heads 129 = .ok (.iload_n 3, 1) := dk_29 (dk_at dksX8_heads_5 12 rfl rfl)
theorem dX8_heads_130 : decode cX8_heads 130 = .ok (.ishl, 1) := dk_120 (dk_at dksX8_heads_5 13 rfl rfl)
theorem dX8_heads_131 : decode cX8_heads 131 = .ok (.goto 4, 3) := dk_167 0 4 (dk_at dksX8_heads_5 14 rfl rfl)
theorem dX8_heads_134 : decode cX8_heads 134 = .ok (.iconst 0, 1) := dk_3 (dk_at dksX8_heads_5 17 rfl rfl)
theorem dX8_heads_135 : decode cX8_heads 135 = .ok (.ior, 1) := dk_128 (dk_at dksX8_heads_5 18 rfl rfl)
theorem dX8_heads_136 : decode cX8_heads 136 = .ok (.istore_n 2, 1) := dk_61 (dk_at dksX8_heads_5 19 rfl rfl)
theorem dX8_heads_137 : decode cX8_heads 137 = .ok (.iinc 3 1, 3) := dk_132 3 1 (dk_at dksX8_heads_5 20 rfl rfl)
theorem dX8_heads_140 : decode cX8_heads 140 = .ok (.goto (-114), 3) := dk_167 255 142 (dk_at dksX8_heads_6 0 rfl rfl)
theorem dX8_heads_143 : decode cX8_heads 143 = .ok (.iload_n 2, 1) := dk_28 (dk_at dksX8_heads_6 3 rfl rfl)
theorem dX8_heads_144 : decode cX8_heads 144 = .ok (.ireturn, 1) := dk_172 (dk_at dksX8_heads_6 4 rfl rfl)
abbrev cX8_driest : ByteArray := prog_24_method_98_code
def yX8_driest : MethodName := ⟨RX8, "driest", "(I)I"⟩
def dkwX8_driest_3 : List UInt8 := [46, 172]
abbrev dktX8_driest_3 : List UInt8 := dkwX8_driest_3 ++ []
def dkwX8_driest_2 : List UInt8 := [167, 0, 4, 28, 61, 132, 3, 1, 167, 255, 226, 27, 154, 0, 7, 28, 167, 0, 9, 42, 180, 0, 44, 28]
abbrev dktX8_driest_2 : List UInt8 := dkwX8_driest_2 ++ dktX8_driest_3
def dkwX8_driest_1 : List UInt8 := [4, 62, 29, 16, 12, 162, 0, 30, 42, 180, 0, 44, 29, 46, 42, 180, 0, 44, 28, 46, 162, 0, 7, 29]
abbrev dktX8_driest_1 : List UInt8 := dkwX8_driest_1 ++ dktX8_driest_2
def dkwX8_driest_0 : List UInt8 := [42, 3, 181, 0, 3, 42, 27, 3, 4, 184, 1, 122, 4, 4, 182, 0, 216, 154, 0, 5, 3, 172, 3, 61]
abbrev dktX8_driest_0 : List UInt8 := dkwX8_driest_0 ++ dktX8_driest_1
theorem dksX8_driest_0 : cX8_driest.data.toList.drop 0 = dktX8_driest_0 := by decide +kernel
theorem dksX8_driest_1 : cX8_driest.data.toList.drop 24 = dktX8_driest_1 := dk_seg dksX8_driest_0 24 rfl rfl
theorem dksX8_driest_2 : cX8_driest.data.toList.drop 48 = dktX8_driest_2 := dk_seg dksX8_driest_1 24 rfl rfl
theorem dksX8_driest_3 : cX8_driest.data.toList.drop 72 = dktX8_driest_3 := dk_seg dksX8_driest_2 24 rfl rfl
theorem dX8_driest_0 : decode cX8_driest 0 = .ok (.aload_n 0, 1) := dk_42 (dk_at dksX8_driest_0 0 rfl rfl)
theorem dX8_driest_1 : decode cX8_driest 1 = .ok (.iconst 0, 1) := dk_3 (dk_at dksX8_driest_0 1 rfl rfl)
theorem dX8_driest_2 : decode cX8_driest 2 = .ok (.putfield 3, 3) := dk_181 0 3 (dk_at dksX8_driest_0 2 rfl rfl)
theorem dX8_driest_5 : decode cX8_driest 5 = .ok (.aload_n 0, 1) := dk_42 (dk_at dksX8_driest_0 5 rfl rfl)
theorem dX8_driest_6 : decode cX8_driest 6 = .ok (.iload_n 1, 1) := dk_27 (dk_at dksX8_driest_0 6 rfl rfl)
theorem dX8_driest_7 : decode cX8_driest 7 = .ok (.iconst 0, 1) := dk_3 (dk_at dksX8_driest_0 7 rfl rfl)
theorem dX8_driest_8 : decode cX8_driest 8 = .ok (.iconst 1, 1) := dk_4 (dk_at dksX8_driest_0 8 rfl rfl)
theorem dX8_driest_9 : decode cX8_driest 9 = .ok (.invokestatic 378, 3) := dk_184 1 122 (dk_at dksX8_driest_0 9 rfl rfl)
theorem dX8_driest_12 : decode cX8_driest 12 = .ok (.iconst 1, 1) := dk_4 (dk_at dksX8_driest_0 12 rfl rfl)
theorem dX8_driest_13 : decode cX8_driest 13 = .ok (.iconst 1, 1) := dk_4 (dk_at dksX8_driest_0 13 rfl rfl)
theorem dX8_driest_14 : decode cX8_driest 14 = .ok (.invokevirtual 216, 3) := dk_182 0 216 (dk_at dksX8_driest_0 14 rfl rfl)
theorem dX8_driest_17 : decode cX8_driest 17 = .ok (.ifCond .ne 5, 3) := dk_154 0 5 (dk_at dksX8_driest_0 17 rfl rfl)
theorem dX8_driest_20 : decode cX8_driest 20 = .ok (.iconst 0, 1) := dk_3 (dk_at dksX8_driest_0 20 rfl rfl)
theorem dX8_driest_21 : decode cX8_driest 21 = .ok (.ireturn, 1) := dk_172 (dk_at dksX8_driest_0 21 rfl rfl)
theorem dX8_driest_22 : decode cX8_driest 22 = .ok (.iconst 0, 1) := dk_3 (dk_at dksX8_driest_0 22 rfl rfl)
theorem dX8_driest_23 : decode cX8_driest 23 = .ok (.istore_n 2, 1) := dk_61 (dk_at dksX8_driest_0 23 rfl rfl)
theorem dX8_driest_24 : decode cX8_driest 24 = .ok (.iconst 1, 1) := dk_4 (dk_at dksX8_driest_1 0 rfl rfl)
theorem dX8_driest_25 : decode cX8_driest 25 = .ok (.istore_n 3, 1) := dk_62 (dk_at dksX8_driest_1 1 rfl rfl)
theorem dX8_driest_26 : decode cX8_driest 26 = .ok (.iload_n 3, 1) := dk_29 (dk_at dksX8_driest_1 2 rfl rfl)
theorem dX8_driest_27 : decode cX8_driest 27 = .ok (.bipush 12, 2) := dk_16 12 (dk_at dksX8_driest_1 3 rfl rfl)
theorem dX8_driest_29 : decode cX8_driest 29 = .ok (.if_icmp .ge 30, 3) := dk_162 0 30 (dk_at dksX8_driest_1 5 rfl rfl)
theorem dX8_driest_32 : decode cX8_driest 32 = .ok (.aload_n 0, 1) := dk_42 (dk_at dksX8_driest_1 8 rfl rfl)
theorem dX8_driest_33 : decode cX8_driest 33 = .ok (.getfield 44, 3) := dk_180 0 44 (dk_at dksX8_driest_1 9 rfl rfl)
theorem dX8_driest_36 : decode cX8_driest 36 = .ok (.iload_n 3, 1) := dk_29 (dk_at dksX8_driest_1 12 rfl rfl)
theorem dX8_driest_37 : decode cX8_driest 37 = .ok (.iaload, 1) := dk_46 (dk_at dksX8_driest_1 13 rfl rfl)
theorem dX8_driest_38 : decode cX8_driest 38 = .ok (.aload_n 0, 1) := dk_42 (dk_at dksX8_driest_1 14 rfl rfl)
theorem dX8_driest_39 : decode cX8_driest 39 = .ok (.getfield 44, 3) := dk_180 0 44 (dk_at dksX8_driest_1 15 rfl rfl)
theorem dX8_driest_42 : decode cX8_driest 42 = .ok (.iload_n 2, 1) := dk_28 (dk_at dksX8_driest_1 18 rfl rfl)
theorem dX8_driest_43 : decode cX8_driest 43 = .ok (.iaload, 1) := dk_46 (dk_at dksX8_driest_1 19 rfl rfl)
theorem dX8_driest_44 : decode cX8_driest 44 = .ok (.if_icmp .ge 7, 3) := dk_162 0 7 (dk_at dksX8_driest_1 20 rfl rfl)
theorem dX8_driest_47 : decode cX8_driest 47 = .ok (.iload_n 3, 1) := dk_29 (dk_at dksX8_driest_1 23 rfl rfl)
theorem dX8_driest_48 : decode cX8_driest 48 = .ok (.goto 4, 3) := dk_167 0 4 (dk_at dksX8_driest_2 0 rfl rfl)
theorem dX8_driest_51 : decode cX8_driest 51 = .ok (.iload_n 2, 1) := dk_28 (dk_at dksX8_driest_2 3 rfl rfl)
theorem dX8_driest_52 : decode cX8_driest 52 = .ok (.istore_n 2, 1) := dk_61 (dk_at dksX8_driest_2 4 rfl rfl)
theorem dX8_driest_53 : decode cX8_driest 53 = .ok (.iinc 3 1, 3) := dk_132 3 1 (dk_at dksX8_driest_2 5 rfl rfl)
theorem dX8_driest_56 : decode cX8_driest 56 = .ok (.goto (-30), 3) := dk_167 255 226 (dk_at dksX8_driest_2 8 rfl rfl)
theorem dX8_driest_59 : decode cX8_driest 59 = .ok (.iload_n 1, 1) := dk_27 (dk_at dksX8_driest_2 11 rfl rfl)
theorem dX8_driest_60 : decode cX8_driest 60 = .ok (.ifCond .ne 7, 3) := dk_154 0 7 (dk_at dksX8_driest_2 12 rfl rfl)
theorem dX8_driest_63 : decode cX8_driest 63 = .ok (.iload_n 2, 1) := dk_28 (dk_at dksX8_driest_2 15 rfl rfl)
theorem dX8_driest_64 : decode cX8_driest 64 = .ok (.goto 9, 3) := dk_167 0 9 (dk_at dksX8_driest_2 16 rfl rfl)
theorem dX8_driest_67 : decode cX8_driest 67 = .ok (.aload_n 0, 1) := dk_42 (dk_at dksX8_driest_2 19 rfl rfl)
theorem dX8_driest_68 : decode cX8_driest 68 = .ok (.getfield 44, 3) := dk_180 0 44 (dk_at dksX8_driest_2 20 rfl rfl)
theorem dX8_driest_71 : decode cX8_driest 71 = .ok (.iload_n 2, 1) := dk_28 (dk_at dksX8_driest_2 23 rfl rfl)
theorem dX8_driest_72 : decode cX8_driest 72 = .ok (.iaload, 1) := dk_46 (dk_at dksX8_driest_3 0 rfl rfl)
theorem dX8_driest_73 : decode cX8_driest 73 = .ok (.ireturn, 1) := dk_172 (dk_at dksX8_driest_3 1 rfl rfl)
abbrev cX8_decade : ByteArray := prog_24_method_102_code
def yX8_decade : MethodName := ⟨RX8, "decade", "(IIII)I"⟩
def dkwX8_decade_3 : List UInt8 := [167, 0, 20, 21, 4, 5, 160, 0, 10, 42, 182, 1, 128, 167, 0, 7, 42, 180, 1, 180, 172]
abbrev dktX8_decade_3 : List UInt8 := dkwX8_decade_3 ++ []
def dkwX8_decade_2 : List UInt8 := [154, 0, 14, 42, 42, 180, 0, 176, 182, 1, 78, 167, 0, 33, 21, 4, 4, 160, 0, 10, 42, 182, 1, 137]
abbrev dktX8_decade_2 : List UInt8 := dkwX8_decade_2 ++ dktX8_decade_3
def dkwX8_decade_1 : List UInt8 := [4, 167, 0, 4, 3, 4, 4, 182, 0, 216, 154, 0, 5, 3, 172, 42, 27, 28, 29, 182, 1, 189, 21, 4]
abbrev dktX8_decade_1 : List UInt8 := dkwX8_decade_1 ++ dktX8_decade_2
def dkwX8_decade_0 : List UInt8 := [42, 3, 181, 0, 3, 42, 28, 29, 184, 1, 186, 153, 0, 17, 21, 4, 3, 6, 184, 1, 122, 153, 0, 7]
abbrev dktX8_decade_0 : List UInt8 := dkwX8_decade_0 ++ dktX8_decade_1
theorem dksX8_decade_0 : cX8_decade.data.toList.drop 0 = dktX8_decade_0 := by decide +kernel
theorem dksX8_decade_1 : cX8_decade.data.toList.drop 24 = dktX8_decade_1 := dk_seg dksX8_decade_0 24 rfl rfl
theorem dksX8_decade_2 : cX8_decade.data.toList.drop 48 = dktX8_decade_2 := dk_seg dksX8_decade_1 24 rfl rfl
theorem dksX8_decade_3 : cX8_decade.data.toList.drop 72 = dktX8_decade_3 := dk_seg dksX8_decade_2 24 rfl rfl
theorem dX8_decade_0 : decode cX8_decade 0 = .ok (.aload_n 0, 1) := dk_42 (dk_at dksX8_decade_0 0 rfl rfl)
theorem dX8_decade_1 : decode cX8_decade 1 = .ok (.iconst 0, 1) := dk_3 (dk_at dksX8_decade_0 1 rfl rfl)
theorem dX8_decade_2 : decode cX8_decade 2 = .ok (.putfield 3, 3) := dk_181 0 3 (dk_at dksX8_decade_0 2 rfl rfl)
theorem dX8_decade_5 : decode cX8_decade 5 = .ok (.aload_n 0, 1) := dk_42 (dk_at dksX8_decade_0 5 rfl rfl)
theorem dX8_decade_6 : decode cX8_decade 6 = .ok (.iload_n 2, 1) := dk_28 (dk_at dksX8_decade_0 6 rfl rfl)
theorem dX8_decade_7 : decode cX8_decade 7 = .ok (.iload_n 3, 1) := dk_29 (dk_at dksX8_decade_0 7 rfl rfl)
theorem dX8_decade_8 : decode cX8_decade 8 = .ok (.invokestatic 442, 3) := dk_184 1 186 (dk_at dksX8_decade_0 8 rfl rfl)
theorem dX8_decade_11 : decode cX8_decade 11 = .ok (.ifCond .eq 17, 3) := dk_153 0 17 (dk_at dksX8_decade_0 11 rfl rfl)
theorem dX8_decade_14 : decode cX8_decade 14 = .ok (.iload 4, 2) := dk_21 4 (dk_at dksX8_decade_0 14 rfl rfl)
theorem dX8_decade_16 : decode cX8_decade 16 = .ok (.iconst 0, 1) := dk_3 (dk_at dksX8_decade_0 16 rfl rfl)
theorem dX8_decade_17 : decode cX8_decade 17 = .ok (.iconst 3, 1) := dk_6 (dk_at dksX8_decade_0 17 rfl rfl)
theorem dX8_decade_18 : decode cX8_decade 18 = .ok (.invokestatic 378, 3) := dk_184 1 122 (dk_at dksX8_decade_0 18 rfl rfl)
theorem dX8_decade_21 : decode cX8_decade 21 = .ok (.ifCond .eq 7, 3) := dk_153 0 7 (dk_at dksX8_decade_0 21 rfl rfl)
theorem dX8_decade_24 : decode cX8_decade 24 = .ok (.iconst 1, 1) := dk_4 (dk_at dksX8_decade_1 0 rfl rfl)
theorem dX8_decade_25 : decode cX8_decade 25 = .ok (.goto 4, 3) := dk_167 0 4 (dk_at dksX8_decade_1 1 rfl rfl)
theorem dX8_decade_28 : decode cX8_decade 28 = .ok (.iconst 0, 1) := dk_3 (dk_at dksX8_decade_1 4 rfl rfl)
theorem dX8_decade_29 : decode cX8_decade 29 = .ok (.iconst 1, 1) := dk_4 (dk_at dksX8_decade_1 5 rfl rfl)
theorem dX8_decade_30 : decode cX8_decade 30 = .ok (.iconst 1, 1) := dk_4 (dk_at dksX8_decade_1 6 rfl rfl)
theorem dX8_decade_31 : decode cX8_decade 31 = .ok (.invokevirtual 216, 3) := dk_182 0 216 (dk_at dksX8_decade_1 7 rfl rfl)
theorem dX8_decade_34 : decode cX8_decade 34 = .ok (.ifCond .ne 5, 3) := dk_154 0 5 (dk_at dksX8_decade_1 10 rfl rfl)
theorem dX8_decade_37 : decode cX8_decade 37 = .ok (.iconst 0, 1) := dk_3 (dk_at dksX8_decade_1 13 rfl rfl)
theorem dX8_decade_38 : decode cX8_decade 38 = .ok (.ireturn, 1) := dk_172 (dk_at dksX8_decade_1 14 rfl rfl)
theorem dX8_decade_39 : decode cX8_decade 39 = .ok (.aload_n 0, 1) := dk_42 (dk_at dksX8_decade_1 15 rfl rfl)
theorem dX8_decade_40 : decode cX8_decade 40 = .ok (.iload_n 1, 1) := dk_27 (dk_at dksX8_decade_1 16 rfl rfl)
theorem dX8_decade_41 : decode cX8_decade 41 = .ok (.iload_n 2, 1) := dk_28 (dk_at dksX8_decade_1 17 rfl rfl)
theorem dX8_decade_42 : decode cX8_decade 42 = .ok (.iload_n 3, 1) := dk_29 (dk_at dksX8_decade_1 18 rfl rfl)
theorem dX8_decade_43 : decode cX8_decade 43 = .ok (.invokevirtual 445, 3) := dk_182 1 189 (dk_at dksX8_decade_1 19 rfl rfl)
theorem dX8_decade_46 : decode cX8_decade 46 = .ok (.iload 4, 2) := dk_21 4 (dk_at dksX8_decade_1 22 rfl rfl)
theorem dX8_decade_48 : decode cX8_decade 48 = .ok (.ifCond .ne 14, 3) := dk_154 0 14 (dk_at dksX8_decade_2 0 rfl rfl)
theorem dX8_decade_51 : decode cX8_decade 51 = .ok (.aload_n 0, 1) := dk_42 (dk_at dksX8_decade_2 3 rfl rfl)
theorem dX8_decade_52 : decode cX8_decade 52 = .ok (.aload_n 0, 1) := dk_42 (dk_at dksX8_decade_2 4 rfl rfl)
theorem dX8_decade_53 : decode cX8_decade 53 = .ok (.getfield 176, 3) := dk_180 0 176 (dk_at dksX8_decade_2 5 rfl rfl)
theorem dX8_decade_56 : decode cX8_decade 56 = .ok (.invokevirtual 334, 3) := dk_182 1 78 (dk_at dksX8_decade_2 8 rfl rfl)
theorem dX8_decade_59 : decode cX8_decade 59 = .ok (.goto 33, 3) := dk_167 0 33 (dk_at dksX8_decade_2 11 rfl rfl)
theorem dX8_decade_62 : decode cX8_decade 62 = .ok (.iload 4, 2) := dk_21 4 (dk_at dksX8_decade_2 14 rfl rfl)
theorem dX8_decade_64 : decode cX8_decade 64 = .ok (.iconst 1, 1) := dk_4 (dk_at dksX8_decade_2 16 rfl rfl)
theorem dX8_decade_65 : decode cX8_decade 65 = .ok (.if_icmp .ne 10, 3) := dk_160 0 10 (dk_at dksX8_decade_2 17 rfl rfl)
theorem dX8_decade_68 : decode cX8_decade 68 = .ok (.aload_n 0, 1) := dk_42 (dk_at dksX8_decade_2 20 rfl rfl)
theorem dX8_decade_69 : decode cX8_decade 69 = .ok (.invokevirtual 393, 3) := dk_182 1 137 (dk_at dksX8_decade_2 21 rfl rfl)
theorem dX8_decade_72 : decode cX8_decade 72 = .ok (.goto 20, 3) := dk_167 0 20 (dk_at dksX8_decade_3 0 rfl rfl)
theorem dX8_decade_75 : decode cX8_decade 75 = .ok (.iload 4, 2) := dk_21 4 (dk_at dksX8_decade_3 3 rfl rfl)
theorem dX8_decade_77 : decode cX8_decade 77 = .ok (.iconst 2, 1) := dk_5 (dk_at dksX8_decade_3 5 rfl rfl)
theorem dX8_decade_78 : decode cX8_decade 78 = .ok (.if_icmp .ne 10, 3) := dk_160 0 10 (dk_at dksX8_decade_3 6 rfl rfl)
theorem dX8_decade_81 : decode cX8_decade 81 = .ok (.aload_n 0, 1) := dk_42 (dk_at dksX8_decade_3 9 rfl rfl)
theorem dX8_decade_82 : decode cX8_decade 82 = .ok (.invokevirtual 384, 3) := dk_182 1 128 (dk_at dksX8_decade_3 10 rfl rfl)
theorem dX8_decade_85 : decode cX8_decade 85 = .ok (.goto 7, 3) := dk_167 0 7 (dk_at dksX8_decade_3 13 rfl rfl)
theorem dX8_decade_88 : decode cX8_decade 88 = .ok (.aload_n 0, 1) := dk_42 (dk_at dksX8_decade_3 16 rfl rfl)
theorem dX8_decade_89 : decode cX8_decade 89 = .ok (.getfield 436, 3) := dk_180 1 180 (dk_at dksX8_decade_3 17 rfl rfl)
theorem dX8_decade_92 : decode cX8_decade 92 = .ok (.ireturn, 1) := dk_172 (dk_at dksX8_decade_3 20 rfl rfl)
abbrev cX8_isDecade : ByteArray := prog_24_method_101_code
def yX8_isDecade : MethodName := ⟨RX8, "isDecade", "(II)Z"⟩
def dkwX8_isDecade_1 : List UInt8 := [167, 0, 4, 3, 172]
abbrev dktX8_isDecade_1 : List UInt8 := dkwX8_isDecade_1 ++ []
def dkwX8_isDecade_0 : List UInt8 := [26, 155, 0, 24, 26, 16, 16, 163, 0, 18, 27, 4, 161, 0, 13, 27, 16, 96, 163, 0, 7, 4]
abbrev dktX8_isDecade_0 : List UInt8 := dkwX8_isDecade_0 ++ dktX8_isDecade_1
theorem dksX8_isDecade_0 : cX8_isDecade.data.toList.drop 0 = dktX8_isDecade_0 := by decide +kernel
theorem dksX8_isDecade_1 : cX8_isDecade.data.toList.drop 22 = dktX8_isDecade_1 := dk_seg dksX8_isDecade_0 22 rfl rfl
theorem dX8_isDecade_0 : decode cX8_isDecade 0 = .ok (.iload_n 0, 1) := dk_26 (dk_at dksX8_isDecade_0 0 rfl rfl)
theorem dX8_isDecade_1 : decode cX8_isDecade 1 = .ok (.ifCond .lt 24, 3) := dk_155 0 24 (dk_at dksX8_isDecade_0 1 rfl rfl)
theorem dX8_isDecade_4 : decode cX8_isDecade 4 = .ok (.iload_n 0, 1) := dk_26 (dk_at dksX8_isDecade_0 4 rfl rfl)
theorem dX8_isDecade_5 : decode cX8_isDecade 5 = .ok (.bipush 16, 2) := dk_16 16 (dk_at dksX8_isDecade_0 5 rfl rfl)
theorem dX8_isDecade_7 : decode cX8_isDecade 7 = .ok (.if_icmp .gt 18, 3) := dk_163 0 18 (dk_at dksX8_isDecade_0 7 rfl rfl)
theorem dX8_isDecade_10 : decode cX8_isDecade 10 = .ok (.iload_n 1, 1) := dk_27 (dk_at dksX8_isDecade_0 10 rfl rfl)
theorem dX8_isDecade_11 : decode cX8_isDecade 11 = .ok (.iconst 1, 1) := dk_4 (dk_at dksX8_isDecade_0 11 rfl rfl)
theorem dX8_isDecade_12 : decode cX8_isDecade 12 = .ok (.if_icmp .lt 13, 3) := dk_161 0 13 (dk_at dksX8_isDecade_0 12 rfl rfl)
theorem dX8_isDecade_15 : decode cX8_isDecade 15 = .ok (.iload_n 1, 1) := dk_27 (dk_at dksX8_isDecade_0 15 rfl rfl)
theorem dX8_isDecade_16 : decode cX8_isDecade 16 = .ok (.bipush 96, 2) := dk_16 96 (dk_at dksX8_isDecade_0 16 rfl rfl)
theorem dX8_isDecade_18 : decode cX8_isDecade 18 = .ok (.if_icmp .gt 7, 3) := dk_163 0 7 (dk_at dksX8_isDecade_0 18 rfl rfl)
theorem dX8_isDecade_21 : decode cX8_isDecade 21 = .ok (.iconst 1, 1) := dk_4 (dk_at dksX8_isDecade_0 21 rfl rfl)
theorem dX8_isDecade_22 : decode cX8_isDecade 22 = .ok (.goto 4, 3) := dk_167 0 4 (dk_at dksX8_isDecade_1 0 rfl rfl)
theorem dX8_isDecade_25 : decode cX8_isDecade 25 = .ok (.iconst 0, 1) := dk_3 (dk_at dksX8_isDecade_1 3 rfl rfl)
theorem dX8_isDecade_26 : decode cX8_isDecade 26 = .ok (.ireturn, 1) := dk_172 (dk_at dksX8_isDecade_1 4 rfl rfl)
abbrev cX8_decadeGoes : ByteArray := prog_24_method_100_code
def yX8_decadeGoes : MethodName := ⟨RX8, "decadeGoes", "(III)V"⟩
def dkwX8_decadeGoes_5 : List UInt8 := [167, 255, 158, 177]
abbrev dktX8_decadeGoes_5 : List UInt8 := dkwX8_decadeGoes_5 ++ []
def dkwX8_decadeGoes_4 : List UInt8 := [162, 0, 16, 42, 16, 48, 42, 16, 10, 182, 1, 183, 182, 1, 112, 87, 42, 182, 1, 119, 132, 4, 1]
abbrev dktX8_decadeGoes_4 : List UInt8 := dkwX8_decadeGoes_4 ++ dktX8_decadeGoes_5
def dkwX8_decadeGoes_3 : List UInt8 := [16, 7, 21, 5, 96, 42, 16, 10, 182, 1, 183, 182, 1, 112, 87, 42, 16, 16, 182, 1, 183, 28]
abbrev dktX8_decadeGoes_3 : List UInt8 := dkwX8_decadeGoes_3 ++ dktX8_decadeGoes_4
def dkwX8_decadeGoes_2 : List UInt8 := [153, 0, 7, 4, 167, 0, 4, 3, 96, 181, 1, 180, 42, 42, 180, 0, 179, 182, 1, 183, 54, 5, 42]
abbrev dktX8_decadeGoes_2 : List UInt8 := dkwX8_decadeGoes_2 ++ dktX8_decadeGoes_3
def dkwX8_decadeGoes_1 : List UInt8 := [180, 0, 179, 158, 0, 81, 42, 89, 180, 1, 180, 42, 42, 42, 180, 0, 179, 182, 1, 183, 182, 1, 109]
abbrev dktX8_decadeGoes_1 : List UInt8 := dkwX8_decadeGoes_1 ++ dktX8_decadeGoes_2
def dkwX8_decadeGoes_0 : List UInt8 := [42, 182, 1, 59, 42, 27, 181, 1, 176, 42, 3, 181, 1, 180, 3, 54, 4, 21, 4, 29, 162, 0, 98, 42]
abbrev dktX8_decadeGoes_0 : List UInt8 := dkwX8_decadeGoes_0 ++ dktX8_decadeGoes_1
theorem dksX8_decadeGoes_0 : cX8_decadeGoes.data.toList.drop 0 = dktX8_decadeGoes_0 := by decide +kernel
theorem dksX8_decadeGoes_1 : cX8_decadeGoes.data.toList.drop 24 = dktX8_decadeGoes_1 := dk_seg dksX8_decadeGoes_0 24 rfl rfl
theorem dksX8_decadeGoes_2 : cX8_decadeGoes.data.toList.drop 47 = dktX8_decadeGoes_2 := dk_seg dksX8_decadeGoes_1 23 rfl rfl
theorem dksX8_decadeGoes_3 : cX8_decadeGoes.data.toList.drop 70 = dktX8_decadeGoes_3 := dk_seg dksX8_decadeGoes_2 23 rfl rfl
theorem dksX8_decadeGoes_4 : cX8_decadeGoes.data.toList.drop 92 = dktX8_decadeGoes_4 := dk_seg dksX8_decadeGoes_3 22 rfl rfl
theorem dksX8_decadeGoes_5 : cX8_decadeGoes.data.toList.drop 115 = dktX8_decadeGoes_5 := dk_seg dksX8_decadeGoes_4 23 rfl rfl
theorem dX8_decadeGoes_0 : decode cX8_decadeGoes 0 = .ok (.aload_n 0, 1) := dk_42 (dk_at dksX8_decadeGoes_0 0 rfl rfl)
theorem dX8_decadeGoes_1 : decode cX8_decadeGoes 1 = .ok (.invokevirtual 315, 3) := dk_182 1 59 (dk_at dksX8_decadeGoes_0 1 rfl rfl)
theorem dX8_decadeGoes_4 : decode cX8_decadeGoes 4 = .ok (.aload_n 0, 1) := dk_42 (dk_at dksX8_decadeGoes_0 4 rfl rfl)
theorem dX8_decadeGoes_5 : decode cX8_decadeGoes 5 = .ok (.iload_n 1, 1) := dk_27 (dk_at dksX8_decadeGoes_0 5 rfl rfl)
theorem dX8_decadeGoes_6 : decode cX8_decadeGoes 6 = .ok (.putfield 432, 3) := dk_181 1 176 (dk_at dksX8_decadeGoes_0 6 rfl rfl)
theorem dX8_decadeGoes_9 : decode cX8_decadeGoes 9 = .ok (.aload_n 0, 1) := dk_42 (dk_at dksX8_decadeGoes_0 9 rfl rfl)
theorem dX8_decadeGoes_10 : decode cX8_decadeGoes 10 = .ok (.iconst 0, 1) := dk_3 (dk_at dksX8_decadeGoes_0 10 rfl rfl)
theorem dX8_decadeGoes_11 : decode cX8_decadeGoes 11 = .ok (.putfield 436, 3) := dk_181 1 180 (dk_at dksX8_decadeGoes_0 11 rfl rfl)
theorem dX8_decadeGoes_14 : decode cX8_decadeGoes 14 = .ok (.iconst 0, 1) := dk_3 (dk_at dksX8_decadeGoes_0 14 rfl rfl)
theorem dX8_decadeGoes_15 : decode cX8_decadeGoes 15 = .ok (.istore 4, 2) := dk_54 4 (dk_at dksX8_decadeGoes_0 15 rfl rfl)
theorem dX8_decadeGoes_17 : decode cX8_decadeGoes 17 = .ok (.iload 4, 2) := dk_21 4 (dk_at dksX8_decadeGoes_0 17 rfl rfl)
theorem dX8_decadeGoes_19 : decode cX8_decadeGoes 19 = .ok (.iload_n 3, 1) := dk_29 (dk_at dksX8_decadeGoes_0 19 rfl rfl)
theorem dX8_decadeGoes_20 : decode cX8_decadeGoes 20 = .ok (.if_icmp .ge 98, 3) := dk_162 0 98 (dk_at dksX8_decadeGoes_0 20 rfl rfl)
theorem dX8_decadeGoes_23 : decode cX8_decadeGoes 23 = .ok (.aload_n 0, 1) := dk_42 (dk_at dksX8_decadeGoes_0 23 rfl rfl)
theorem dX8_decadeGoes_24 : decode cX8_decadeGoes 24 = .ok (.getfield 179, 3) := dk_180 0 179 (dk_at dksX8_decadeGoes_1 0 rfl rfl)
theorem dX8_decadeGoes_27 : decode cX8_decadeGoes 27 = .ok (.ifCond .le 81, 3) := dk_158 0 81 (dk_at dksX8_decadeGoes_1 3 rfl rfl)
theorem dX8_decadeGoes_30 : decode cX8_decadeGoes 30 = .ok (.aload_n 0, 1) := dk_42 (dk_at dksX8_decadeGoes_1 6 rfl rfl)
theorem dX8_decadeGoes_31 : decode cX8_decadeGoes 31 = .ok (.dup, 1) := dk_89 (dk_at dksX8_decadeGoes_1 7 rfl rfl)
theorem dX8_decadeGoes_32 : decode cX8_decadeGoes 32 = .ok (.getfield 436, 3) := dk_180 1 180 (dk_at dksX8_decadeGoes_1 8 rfl rfl)
theorem dX8_decadeGoes_35 : decode cX8_decadeGoes 35 = .ok (.aload_n 0, 1) := dk_42 (dk_at dksX8_decadeGoes_1 11 rfl rfl)
theorem dX8_decadeGoes_36 : decode cX8_decadeGoes 36 = .ok (.aload_n 0, 1) := dk_42 (dk_at dksX8_decadeGoes_1 12 rfl rfl)
theorem dX8_decadeGoes_37 : decode cX8_decadeGoes 37 = .ok (.aload_n 0, 1) := dk_42 (dk_at dksX8_decadeGoes_1 13 rfl rfl)
theorem dX8_decadeGoes_38 : decode cX8_decadeGoes 38 = .ok (.getfield 179, 3) := dk_180 0 179 (dk_at dksX8_decadeGoes_1 14 rfl rfl)
theorem dX8_decadeGoes_41 : decode cX8_decadeGoes 41 = .ok (.invokevirtual 439, 3) := dk_182 1 183 (dk_at dksX8_decadeGoes_1 17 rfl rfl)
theorem dX8_decadeGoes_44 : decode cX8_decadeGoes 44 = .ok (.invokevirtual 365, 3) := dk_182 1 109 (dk_at dksX8_decadeGoes_1 20 rfl rfl)
theorem dX8_decadeGoes_47 : decode cX8_decadeGoes 47 = .ok (.ifCond .eq 7, 3) := dk_153 0 7 (dk_at dksX8_decadeGoes_2 0 rfl rfl)
theorem dX8_decadeGoes_50 : decode cX8_decadeGoes 50 = .ok (.iconst 1, 1) := dk_4 (dk_at dksX8_decadeGoes_2 3 rfl rfl)
theorem dX8_decadeGoes_51 : decode cX8_decadeGoes 51 = .ok (.goto 4, 3) := dk_167 0 4 (dk_at dksX8_decadeGoes_2 4 rfl rfl)
theorem dX8_decadeGoes_54 : decode cX8_decadeGoes 54 = .ok (.iconst 0, 1) := dk_3 (dk_at dksX8_decadeGoes_2 7 rfl rfl)
theorem dX8_decadeGoes_55 : decode cX8_decadeGoes 55 = .ok (.iadd, 1) := dk_96 (dk_at dksX8_decadeGoes_2 8 rfl rfl)
theorem dX8_decadeGoes_56 : decode cX8_decadeGoes 56 = .ok (.putfield 436, 3) := dk_181 1 180 (dk_at dksX8_decadeGoes_2 9 rfl rfl)
theorem dX8_decadeGoes_59 : decode cX8_decadeGoes 59 = .ok (.aload_n 0, 1) := dk_42 (dk_at dksX8_decadeGoes_2 12 rfl rfl)
theorem dX8_decadeGoes_60 : decode cX8_decadeGoes 60 = .ok (.aload_n 0, 1) := dk_42 (dk_at dksX8_decadeGoes_2 13 rfl rfl)
theorem dX8_decadeGoes_61 : decode cX8_decadeGoes 61 = .ok (.getfield 179, 3) := dk_180 0 179 (dk_at dksX8_decadeGoes_2 14 rfl rfl)
theorem dX8_decadeGoes_64 : decode cX8_decadeGoes 64 = .ok (.invokevirtual 439, 3) := dk_182 1 183 (dk_at dksX8_decadeGoes_2 17 rfl rfl)
theorem dX8_decadeGoes_67 : decode cX8_decadeGoes 67 = .ok (.istore 5, 2) := dk_54 5 (dk_at dksX8_decadeGoes_2 20 rfl rfl)
theorem dX8_decadeGoes_69 : decode cX8_decadeGoes 69 = .ok (.aload_n 0, 1) := dk_42 (dk_at dksX8_decadeGoes_2 22 rfl rfl)
theorem dX8_decadeGoes_70 : decode cX8_decadeGoes 70 = .ok (.bipush 7, 2) := dk_16 7 (dk_at dksX8_decadeGoes_3 0 rfl rfl)
theorem dX8_decadeGoes_72 : decode cX8_decadeGoes 72 = .ok (.iload 5, 2) := dk_21 5 (dk_at dksX8_decadeGoes_3 2 rfl rfl)
theorem dX8_decadeGoes_74 : decode cX8_decadeGoes 74 = .ok (.iadd, 1) := dk_96 (dk_at dksX8_decadeGoes_3 4 rfl rfl)
theorem dX8_decadeGoes_75 : decode cX8_decadeGoes 75 = .ok (.aload_n 0, 1) := dk_42 (dk_at dksX8_decadeGoes_3 5 rfl rfl)
theorem dX8_decadeGoes_76 : decode cX8_decadeGoes 76 = .ok (.bipush 10, 2) := dk_16 10 (dk_at dksX8_decadeGoes_3 6 rfl rfl)
theorem dX8_decadeGoes_78 : decode cX8_decadeGoes 78 = .ok (.invokevirtual 439, 3) := dk_182 1 183 (dk_at dksX8_decadeGoes_3 8 rfl rfl)
theorem dX8_decadeGoes_81 : decode cX8_decadeGoes 81 = .ok (.invokevirtual 368, 3) := dk_182 1 112 (dk_at dksX8_decadeGoes_3 11 rfl rfl)
theorem dX8_decadeGoes_84 : decode cX8_decadeGoes 84 = .ok (.pop, 1) := dk_87 (dk_at dksX8_decadeGoes_3 14 rfl rfl)
theorem dX8_decadeGoes_85 : decode cX8_decadeGoes 85 = .ok (.aload_n 0, 1) := dk_42 (dk_at dksX8_decadeGoes_3 15 rfl rfl)
theorem dX8_decadeGoes_86 : decode cX8_decadeGoes 86 = .ok (.bipush 16, 2) := dk_16 16 (dk_at dksX8_decadeGoes_3 16 rfl rfl)
theorem dX8_decadeGoes_88 : decode cX8_decadeGoes 88 = .ok (.invokevirtual 439, 3) := dk_182 1 183 (dk_at dksX8_decadeGoes_3 18 rfl rfl)
theorem dX8_decadeGoes_91 : decode cX8_decadeGoes 91 = .ok (.iload_n 2, 1) := dk_28 (dk_at dksX8_decadeGoes_3 21 rfl rfl)
theorem dX8_decadeGoes_92 : decode cX8_decadeGoes 92 = .ok (.if_icmp .ge 16, 3) := dk_162 0 16 (dk_at dksX8_decadeGoes_4 0 rfl rfl)
theorem dX8_decadeGoes_95 : decode cX8_decadeGoes 95 = .ok (.aload_n 0, 1) := dk_42 (dk_at dksX8_decadeGoes_4 3 rfl rfl)
theorem dX8_decadeGoes_96 : decode cX8_decadeGoes 96 = .ok (.bipush 48, 2) := dk_16 48 (dk_at dksX8_decadeGoes_4 4 rfl rfl)
theorem dX8_decadeGoes_98 : decode cX8_decadeGoes 98 = .ok (.aload_n 0, 1) := dk_42 (dk_at dksX8_decadeGoes_4 6 rfl rfl)
theorem dX8_decadeGoes_99 : decode cX8_decadeGoes 99 = .ok (.bipush 10, 2) := dk_16 10 (dk_at dksX8_decadeGoes_4 7 rfl rfl)
theorem dX8_decadeGoes_101 : decode cX8_decadeGoes 101 = .ok (.invokevirtual 439, 3) := dk_182 1 183 (dk_at dksX8_decadeGoes_4 9 rfl rfl)
theorem dX8_decadeGoes_104 : decode cX8_decadeGoes 104 = .ok (.invokevirtual 368, 3) := dk_182 1 112 (dk_at dksX8_decadeGoes_4 12 rfl rfl)
theorem dX8_decadeGoes_107 : decode cX8_decadeGoes 107 = .ok (.pop, 1) := dk_87 (dk_at dksX8_decadeGoes_4 15 rfl rfl)
theorem dX8_decadeGoes_108 : decode cX8_decadeGoes 108 = .ok (.aload_n 0, 1) := dk_42 (dk_at dksX8_decadeGoes_4 16 rfl rfl)
theorem dX8_decadeGoes_109 : decode cX8_decadeGoes 109 = .ok (.invokevirtual 375, 3) := dk_182 1 119 (dk_at dksX8_decadeGoes_4 17 rfl rfl)
theorem dX8_decadeGoes_112 : decode cX8_decadeGoes 112 = .ok (.iinc 4 1, 3) := dk_132 4 1 (dk_at dksX8_decadeGoes_4 20 rfl rfl)
theorem dX8_decadeGoes_115 : decode cX8_decadeGoes 115 = .ok (.goto (-98), 3) := dk_167 255 158 (dk_at dksX8_decadeGoes_5 0 rfl rfl)
theorem dX8_decadeGoes_118 : decode cX8_decadeGoes 118 = .ok (.return_, 1) := dk_177 (dk_at dksX8_decadeGoes_5 3 rfl rfl)
abbrev cX8_draws : ByteArray := prog_24_method_99_code
def yX8_draws : MethodName := ⟨RX8, "draws", "(I)I"⟩
def dkwX8_draws_1 : List UInt8 := [17, 127, 255, 126, 27, 112, 172]
abbrev dktX8_draws_1 : List UInt8 := dkwX8_draws_1 ++ []
def dkwX8_draws_0 : List UInt8 := [42, 42, 180, 1, 176, 19, 1, 179, 104, 17, 48, 57, 96, 181, 1, 176, 42, 180, 1, 176, 16, 16, 122]
abbrev dktX8_draws_0 : List UInt8 := dkwX8_draws_0 ++ dktX8_draws_1
theorem dksX8_draws_0 : cX8_draws.data.toList.drop 0 = dktX8_draws_0 := by decide +kernel
theorem dksX8_draws_1 : cX8_draws.data.toList.drop 23 = dktX8_draws_1 := dk_seg dksX8_draws_0 23 rfl rfl
theorem dX8_draws_0 : decode cX8_draws 0 = .ok (.aload_n 0, 1) := dk_42 (dk_at dksX8_draws_0 0 rfl rfl)
theorem dX8_draws_1 : decode cX8_draws 1 = .ok (.aload_n 0, 1) := dk_42 (dk_at dksX8_draws_0 1 rfl rfl)
theorem dX8_draws_2 : decode cX8_draws 2 = .ok (.getfield 432, 3) := dk_180 1 176 (dk_at dksX8_draws_0 2 rfl rfl)
theorem dX8_draws_5 : decode cX8_draws 5 = .ok (.ldc_w 435, 3) := dk_19 1 179 (dk_at dksX8_draws_0 5 rfl rfl)
theorem dX8_draws_8 : decode cX8_draws 8 = .ok (.imul, 1) := dk_104 (dk_at dksX8_draws_0 8 rfl rfl)
theorem dX8_draws_9 : decode cX8_draws 9 = .ok (.sipush 12345, 3) := dk_17 48 57 (dk_at dksX8_draws_0 9 rfl rfl)
theorem dX8_draws_12 : decode cX8_draws 12 = .ok (.iadd, 1) := dk_96 (dk_at dksX8_draws_0 12 rfl rfl)
theorem dX8_draws_13 : decode cX8_draws 13 = .ok (.putfield 432, 3) := dk_181 1 176 (dk_at dksX8_draws_0 13 rfl rfl)
theorem dX8_draws_16 : decode cX8_draws 16 = .ok (.aload_n 0, 1) := dk_42 (dk_at dksX8_draws_0 16 rfl rfl)
theorem dX8_draws_17 : decode cX8_draws 17 = .ok (.getfield 432, 3) := dk_180 1 176 (dk_at dksX8_draws_0 17 rfl rfl)
theorem dX8_draws_20 : decode cX8_draws 20 = .ok (.bipush 16, 2) := dk_16 16 (dk_at dksX8_draws_0 20 rfl rfl)
theorem dX8_draws_22 : decode cX8_draws 22 = .ok (.ishr, 1) := dk_122 (dk_at dksX8_draws_0 22 rfl rfl)
theorem dX8_draws_23 : decode cX8_draws 23 = .ok (.sipush 32767, 3) := dk_17 127 255 (dk_at dksX8_draws_1 0 rfl rfl)
theorem dX8_draws_26 : decode cX8_draws 26 = .ok (.iand, 1) := dk_126 (dk_at dksX8_draws_1 3 rfl rfl)
theorem dX8_draws_27 : decode cX8_draws 27 = .ok (.iload_n 1, 1) := dk_27 (dk_at dksX8_draws_1 4 rfl rfl)
theorem dX8_draws_28 : decode cX8_draws 28 = .ok (.irem, 1) := dk_112 (dk_at dksX8_draws_1 5 rfl rfl)
theorem dX8_draws_29 : decode cX8_draws 29 = .ok (.ireturn, 1) := dk_172 (dk_at dksX8_draws_1 6 rfl rfl)
abbrev cX8_span : ByteArray := prog_24_method_103_code
def yX8_span : MethodName := ⟨RX8, "span", "(IIIIII)I"⟩
def dkwX8_span_8 : List UInt8 := [167, 0, 5, 21, 9, 172]
abbrev dktX8_span_8 : List UInt8 := dkwX8_span_8 ++ []
def dkwX8_span_7 : List UInt8 := [132, 10, 1, 167, 255, 169, 21, 5, 154, 0, 8, 21, 7, 167, 0, 16, 21, 5, 4, 160, 0, 8, 21, 8]
abbrev dktX8_span_7 : List UInt8 := dkwX8_span_7 ++ dktX8_span_8
def dkwX8_span_6 : List UInt8 := [21, 8, 54, 8, 21, 9, 42, 21, 6, 182, 1, 90, 158, 0, 7, 4, 167, 0, 4, 3, 96, 54, 9]
abbrev dktX8_span_6 : List UInt8 := dkwX8_span_6 ++ dktX8_span_7
def dkwX8_span_5 : List UInt8 := [162, 0, 8, 21, 11, 167, 0, 5, 21, 7, 54, 7, 21, 11, 21, 8, 164, 0, 8, 21, 11, 167, 0, 5]
abbrev dktX8_span_5 : List UInt8 := dkwX8_span_5 ++ dktX8_span_6
def dkwX8_span_4 : List UInt8 := [182, 1, 189, 42, 42, 180, 0, 176, 182, 1, 78, 54, 11, 21, 7, 2, 159, 0, 10, 21, 11, 21, 7]
abbrev dktX8_span_4 : List UInt8 := dkwX8_span_4 ++ dktX8_span_5
def dkwX8_span_3 : List UInt8 := [3, 54, 8, 3, 54, 9, 3, 54, 10, 21, 10, 28, 162, 0, 87, 42, 27, 21, 10, 96, 29, 21, 4]
abbrev dktX8_span_3 : List UInt8 := dkwX8_span_3 ++ dktX8_span_4
def dkwX8_span_2 : List UInt8 := [184, 1, 122, 153, 0, 7, 4, 167, 0, 4, 3, 4, 4, 182, 0, 216, 154, 0, 5, 3, 172, 2, 54, 7]
abbrev dktX8_span_2 : List UInt8 := dkwX8_span_2 ++ dktX8_span_3
def dkwX8_span_1 : List UInt8 := [153, 0, 32, 21, 5, 3, 5, 184, 1, 122, 153, 0, 22, 21, 6, 3, 42, 180, 0, 179, 4, 100]
abbrev dktX8_span_1 : List UInt8 := dkwX8_span_1 ++ dktX8_span_2
def dkwX8_span_0 : List UInt8 := [42, 3, 181, 0, 3, 42, 28, 4, 16, 20, 184, 1, 122, 153, 0, 41, 29, 21, 4, 184, 1, 186]
abbrev dktX8_span_0 : List UInt8 := dkwX8_span_0 ++ dktX8_span_1
theorem dksX8_span_0 : cX8_span.data.toList.drop 0 = dktX8_span_0 := by decide +kernel
theorem dksX8_span_1 : cX8_span.data.toList.drop 22 = dktX8_span_1 := dk_seg dksX8_span_0 22 rfl rfl
theorem dksX8_span_2 : cX8_span.data.toList.drop 44 = dktX8_span_2 := dk_seg dksX8_span_1 22 rfl rfl
theorem dksX8_span_3 : cX8_span.data.toList.drop 68 = dktX8_span_3 := dk_seg dksX8_span_2 24 rfl rfl
theorem dksX8_span_4 : cX8_span.data.toList.drop 91 = dktX8_span_4 := dk_seg dksX8_span_3 23 rfl rfl
theorem dksX8_span_5 : cX8_span.data.toList.drop 114 = dktX8_span_5 := dk_seg dksX8_span_4 23 rfl rfl
theorem dksX8_span_6 : cX8_span.data.toList.drop 138 = dktX8_span_6 := dk_seg dksX8_span_5 24 rfl rfl
theorem dksX8_span_7 : cX8_span.data.toList.drop 161 = dktX8_span_7 := dk_seg dksX8_span_6 23 rfl rfl
theorem dksX8_span_8 : cX8_span.data.toList.drop 185 = dktX8_span_8 := dk_seg dksX8_span_7 24 rfl rfl
theorem dX8_span_0 : decode cX8_span 0 = .ok (.aload_n 0, 1) := dk_42 (dk_at dksX8_span_0 0 rfl rfl)
theorem dX8_span_1 : decode cX8_span 1 = .ok (.iconst 0, 1) := dk_3 (dk_at dksX8_span_0 1 rfl rfl)
theorem dX8_span_2 : decode cX8_span 2 = .ok (.putfield 3, 3) := dk_181 0 3 (dk_at dksX8_span_0 2 rfl rfl)
theorem dX8_span_5 : decode cX8_span 5 = .ok (.aload_n 0, 1) := dk_42 (dk_at dksX8_span_0 5 rfl rfl)
theorem dX8_span_6 : decode cX8_span 6 = .ok (.iload_n 2, 1) := dk_28 (dk_at dksX8_span_0 6 rfl rfl)
theorem dX8_span_7 : decode cX8_span 7 = .ok (.iconst 1, 1) := dk_4 (dk_at dksX8_span_0 7 rfl rfl)
theorem dX8_span_8 : decode cX8_span 8 = .ok (.bipush 20, 2) := dk_16 20 (dk_at dksX8_span_0 8 rfl rfl)
theorem dX8_span_10 : decode cX8_span 10 = .ok (.invokestatic 378, 3) := dk_184 1 122 (dk_at dksX8_span_0 10 rfl rfl)
theorem dX8_span_13 : decode cX8_span 13 = .ok (.ifCond .eq 41, 3) := dk_153 0 41 (dk_at dksX8_span_0 13 rfl rfl)
theorem dX8_span_16 : decode cX8_span 16 = .ok (.iload_n 3, 1) := dk_29 (dk_at dksX8_span_0 16 rfl rfl)
theorem dX8_span_17 : decode cX8_span 17 = .ok (.iload 4, 2) := dk_21 4 (dk_at dksX8_span_0 17 rfl rfl)
theorem dX8_span_19 : decode cX8_span 19 = .ok (.invokestatic 442, 3) := dk_184 1 186 (dk_at dksX8_span_0 19 rfl rfl)
theorem dX8_span_22 : decode cX8_span 22 = .ok (.ifCond .eq 32, 3) := dk_153 0 32 (dk_at dksX8_span_1 0 rfl rfl)
theorem dX8_span_25 : decode cX8_span 25 = .ok (.iload 5, 2) := dk_21 5 (dk_at dksX8_span_1 3 rfl rfl)
theorem dX8_span_27 : decode cX8_span 27 = .ok (.iconst 0, 1) := dk_3 (dk_at dksX8_span_1 5 rfl rfl)
theorem dX8_span_28 : decode cX8_span 28 = .ok (.iconst 2, 1) := dk_5 (dk_at dksX8_span_1 6 rfl rfl)
theorem dX8_span_29 : decode cX8_span 29 = .ok (.invokestatic 378, 3) := dk_184 1 122 (dk_at dksX8_span_1 7 rfl rfl)
theorem dX8_span_32 : decode cX8_span 32 = .ok (.ifCond .eq 22, 3) := dk_153 0 22 (dk_at dksX8_span_1 10 rfl rfl)
theorem dX8_span_35 : decode cX8_span 35 = .ok (.iload 6, 2) := dk_21 6 (dk_at dksX8_span_1 13 rfl rfl)
theorem dX8_span_37 : decode cX8_span 37 = .ok (.iconst 0, 1) := dk_3 (dk_at dksX8_span_1 15 rfl rfl)
theorem dX8_span_38 : decode cX8_span 38 = .ok (.aload_n 0, 1) := dk_42 (dk_at dksX8_span_1 16 rfl rfl)
theorem dX8_span_39 : decode cX8_span 39 = .ok (.getfield 179, 3) := dk_180 0 179 (dk_at dksX8_span_1 17 rfl rfl)
theorem dX8_span_42 : decode cX8_span 42 = .ok (.iconst 1, 1) := dk_4 (dk_at dksX8_span_1 20 rfl rfl)
theorem dX8_span_43 : decode cX8_span 43 = .ok (.isub, 1) := dk_100 (dk_at dksX8_span_1 21 rfl rfl)
theorem dX8_span_44 : decode cX8_span 44 = .ok (.invokestatic 378, 3) := dk_184 1 122 (dk_at dksX8_span_2 0 rfl rfl)
theorem dX8_span_47 : decode cX8_span 47 = .ok (.ifCond .eq 7, 3) := dk_153 0 7 (dk_at dksX8_span_2 3 rfl rfl)
theorem dX8_span_50 : decode cX8_span 50 = .ok (.iconst 1, 1) := dk_4 (dk_at dksX8_span_2 6 rfl rfl)
theorem dX8_span_51 : decode cX8_span 51 = .ok (.goto 4, 3) := dk_167 0 4 (dk_at dksX8_span_2 7 rfl rfl)
theorem dX8_span_54 : decode cX8_span 54 = .ok (.iconst 0, 1) := dk_3 (dk_at dksX8_span_2 10 rfl rfl)
theorem dX8_span_55 : decode cX8_span 55 = .ok (.iconst 1, 1) := dk_4 (dk_at dksX8_span_2 11 rfl rfl)
theorem dX8_span_56 : decode cX8_span 56 = .ok (.iconst 1, 1) := dk_4 (dk_at dksX8_span_2 12 rfl rfl)
theorem dX8_span_57 : decode cX8_span 57 = .ok (.invokevirtual 216, 3) := dk_182 0 216 (dk_at dksX8_span_2 13 rfl rfl)
theorem dX8_span_60 : decode cX8_span 60 = .ok (.ifCond .ne 5, 3) := dk_154 0 5 (dk_at dksX8_span_2 16 rfl rfl)
theorem dX8_span_63 : decode cX8_span 63 = .ok (.iconst 0, 1) := dk_3 (dk_at dksX8_span_2 19 rfl rfl)
theorem dX8_span_64 : decode cX8_span 64 = .ok (.ireturn, 1) := dk_172 (dk_at dksX8_span_2 20 rfl rfl)
theorem dX8_span_65 : decode cX8_span 65 = .ok (.iconst (-1), 1) := dk_2 (dk_at dksX8_span_2 21 rfl rfl)
theorem dX8_span_66 : decode cX8_span 66 = .ok (.istore 7, 2) := dk_54 7 (dk_at dksX8_span_2 22 rfl rfl)
theorem dX8_span_68 : decode cX8_span 68 = .ok (.iconst 0, 1) := dk_3 (dk_at dksX8_span_3 0 rfl rfl)
theorem dX8_span_69 : decode cX8_span 69 = .ok (.istore 8, 2) := dk_54 8 (dk_at dksX8_span_3 1 rfl rfl)
theorem dX8_span_71 : decode cX8_span 71 = .ok (.iconst 0, 1) := dk_3 (dk_at dksX8_span_3 3 rfl rfl)
theorem dX8_span_72 : decode cX8_span 72 = .ok (.istore 9, 2) := dk_54 9 (dk_at dksX8_span_3 4 rfl rfl)
theorem dX8_span_74 : decode cX8_span 74 = .ok (.iconst 0, 1) := dk_3 (dk_at dksX8_span_3 6 rfl rfl)
theorem dX8_span_75 : decode cX8_span 75 = .ok (.istore 10, 2) := dk_54 10 (dk_at dksX8_span_3 7 rfl rfl)
theorem dX8_span_77 : decode cX8_span 77 = .ok (.iload 10, 2) := dk_21 10 (dk_at dksX8_span_3 9 rfl rfl)
theorem dX8_span_79 : decode cX8_span 79 = .ok (.iload_n 2, 1) := dk_28 (dk_at dksX8_span_3 11 rfl rfl)
theorem dX8_span_80 : decode cX8_span 80 = .ok (.if_icmp .ge 87, 3) := dk_162 0 87 (dk_at dksX8_span_3 12 rfl rfl)
theorem dX8_span_83 : decode cX8_span 83 = .ok (.aload_n 0, 1) := dk_42 (dk_at dksX8_span_3 15 rfl rfl)
theorem dX8_span_84 : decode cX8_span 84 = .ok (.iload_n 1, 1) := dk_27 (dk_at dksX8_span_3 16 rfl rfl)
theorem dX8_span_85 : decode cX8_span 85 = .ok (.iload 10, 2) := dk_21 10 (dk_at dksX8_span_3 17 rfl rfl)
theorem dX8_span_87 : decode cX8_span 87 = .ok (.iadd, 1) := dk_96 (dk_at dksX8_span_3 19 rfl rfl)
theorem dX8_span_88 : decode cX8_span 88 = .ok (.iload_n 3, 1) := dk_29 (dk_at dksX8_span_3 20 rfl rfl)
theorem dX8_span_89 : decode cX8_span 89 = .ok (.iload 4, 2) := dk_21 4 (dk_at dksX8_span_3 21 rfl rfl)
theorem dX8_span_91 : decode cX8_span 91 = .ok (.invokevirtual 445, 3) := dk_182 1 189 (dk_at dksX8_span_4 0 rfl rfl)
theorem dX8_span_94 : decode cX8_span 94 = .ok (.aload_n 0, 1) := dk_42 (dk_at dksX8_span_4 3 rfl rfl)
theorem dX8_span_95 : decode cX8_span 95 = .ok (.aload_n 0, 1) := dk_42 (dk_at dksX8_span_4 4 rfl rfl)
theorem dX8_span_96 : decode cX8_span 96 = .ok (.getfield 176, 3) := dk_180 0 176 (dk_at dksX8_span_4 5 rfl rfl)
theorem dX8_span_99 : decode cX8_span 99 = .ok (.invokevirtual 334, 3) := dk_182 1 78 (dk_at dksX8_span_4 8 rfl rfl)
theorem dX8_span_102 : decode cX8_span 102 = .ok (.istore 11, 2) := dk_54 11 (dk_at dksX8_span_4 11 rfl rfl)
theorem dX8_span_104 : decode cX8_span 104 = .ok (.iload 7, 2) := dk_21 7 (dk_at dksX8_span_4 13 rfl rfl)
theorem dX8_span_106 : decode cX8_span 106 = .ok (.iconst (-1), 1) := dk_2 (dk_at dksX8_span_4 15 rfl rfl)
theorem dX8_span_107 : decode cX8_span 107 = .ok (.if_icmp .eq 10, 3) := dk_159 0 10 (dk_at dksX8_span_4 16 rfl rfl)
theorem dX8_span_110 : decode cX8_span 110 = .ok (.iload 11, 2) := dk_21 11 (dk_at dksX8_span_4 19 rfl rfl)
theorem dX8_span_112 : decode cX8_span 112 = .ok (.iload 7, 2) := dk_21 7 (dk_at dksX8_span_4 21 rfl rfl)
theorem dX8_span_114 : decode cX8_span 114 = .ok (.if_icmp .ge 8, 3) := dk_162 0 8 (dk_at dksX8_span_5 0 rfl rfl)
theorem dX8_span_117 : decode cX8_span 117 = .ok (.iload 11, 2) := dk_21 11 (dk_at dksX8_span_5 3 rfl rfl)
theorem dX8_span_119 : decode cX8_span 119 = .ok (.goto 5, 3) := dk_167 0 5 (dk_at dksX8_span_5 5 rfl rfl)
theorem dX8_span_122 : decode cX8_span 122 = .ok (.iload 7, 2) := dk_21 7 (dk_at dksX8_span_5 8 rfl rfl)
theorem dX8_span_124 : decode cX8_span 124 = .ok (.istore 7, 2) := dk_54 7 (dk_at dksX8_span_5 10 rfl rfl)
theorem dX8_span_126 : decode cX8_span 126 = .ok (.iload 11, 2) := dk_21 11 (dk_at dksX8_span_5 12 rfl rfl)
theorem dX8_span_128 : decode cX8_span 128 = .ok (.iload 8, 2) := dk_21 8 (dk_at dksX8_span_5 14 rfl rfl)
theorem dX8_span_130 : decode cX8_span 130 = .ok (.if_icmp .le 8, 3) := dk_164 0 8 (dk_at dksX8_span_5 16 rfl rfl)
theorem dX8_span_133 : decode cX8_span 133 = .ok (.iload 11, 2) := dk_21 11 (dk_at dksX8_span_5 19 rfl rfl)
theorem dX8_span_135 : decode cX8_span 135 = .ok (.goto 5, 3) := dk_167 0 5 (dk_at dksX8_span_5 21 rfl rfl)
theorem dX8_span_138 : decode cX8_span 138 = .ok (.iload 8, 2) := dk_21 8 (dk_at dksX8_span_6 0 rfl rfl)
theorem dX8_span_140 : decode cX8_span 140 = .ok (.istore 8, 2) := dk_54 8 (dk_at dksX8_span_6 2 rfl rfl)
theorem dX8_span_142 : decode cX8_span 142 = .ok (.iload 9, 2) := dk_21 9 (dk_at dksX8_span_6 4 rfl rfl)
theorem dX8_span_144 : decode cX8_span 144 = .ok (.aload_n 0, 1) := dk_42 (dk_at dksX8_span_6 6 rfl rfl)
theorem dX8_span_145 : decode cX8_span 145 = .ok (.iload 6, 2) := dk_21 6 (dk_at dksX8_span_6 7 rfl rfl)
theorem dX8_span_147 : decode cX8_span 147 = .ok (.invokevirtual 346, 3) := dk_182 1 90 (dk_at dksX8_span_6 9 rfl rfl)
theorem dX8_span_150 : decode cX8_span 150 = .ok (.ifCond .le 7, 3) := dk_158 0 7 (dk_at dksX8_span_6 12 rfl rfl)
theorem dX8_span_153 : decode cX8_span 153 = .ok (.iconst 1, 1) := dk_4 (dk_at dksX8_span_6 15 rfl rfl)
theorem dX8_span_154 : decode cX8_span 154 = .ok (.goto 4, 3) := dk_167 0 4 (dk_at dksX8_span_6 16 rfl rfl)
theorem dX8_span_157 : decode cX8_span 157 = .ok (.iconst 0, 1) := dk_3 (dk_at dksX8_span_6 19 rfl rfl)
theorem dX8_span_158 : decode cX8_span 158 = .ok (.iadd, 1) := dk_96 (dk_at dksX8_span_6 20 rfl rfl)
theorem dX8_span_159 : decode cX8_span 159 = .ok (.istore 9, 2) := dk_54 9 (dk_at dksX8_span_6 21 rfl rfl)
theorem dX8_span_161 : decode cX8_span 161 = .ok (.iinc 10 1, 3) := dk_132 10 1 (dk_at dksX8_span_7 0 rfl rfl)
theorem dX8_span_164 : decode cX8_span 164 = .ok (.goto (-87), 3) := dk_167 255 169 (dk_at dksX8_span_7 3 rfl rfl)
theorem dX8_span_167 : decode cX8_span 167 = .ok (.iload 5, 2) := dk_21 5 (dk_at dksX8_span_7 6 rfl rfl)
theorem dX8_span_169 : decode cX8_span 169 = .ok (.ifCond .ne 8, 3) := dk_154 0 8 (dk_at dksX8_span_7 8 rfl rfl)
theorem dX8_span_172 : decode cX8_span 172 = .ok (.iload 7, 2) := dk_21 7 (dk_at dksX8_span_7 11 rfl rfl)
theorem dX8_span_174 : decode cX8_span 174 = .ok (.goto 16, 3) := dk_167 0 16 (dk_at dksX8_span_7 13 rfl rfl)
theorem dX8_span_177 : decode cX8_span 177 = .ok (.iload 5, 2) := dk_21 5 (dk_at dksX8_span_7 16 rfl rfl)
theorem dX8_span_179 : decode cX8_span 179 = .ok (.iconst 1, 1) := dk_4 (dk_at dksX8_span_7 18 rfl rfl)
theorem dX8_span_180 : decode cX8_span 180 = .ok (.if_icmp .ne 8, 3) := dk_160 0 8 (dk_at dksX8_span_7 19 rfl rfl)
theorem dX8_span_183 : decode cX8_span 183 = .ok (.iload 8, 2) := dk_21 8 (dk_at dksX8_span_7 22 rfl rfl)
theorem dX8_span_185 : decode cX8_span 185 = .ok (.goto 5, 3) := dk_167 0 5 (dk_at dksX8_span_8 0 rfl rfl)
theorem dX8_span_188 : decode cX8_span 188 = .ok (.iload 9, 2) := dk_21 9 (dk_at dksX8_span_8 3 rfl rfl)
theorem dX8_span_190 : decode cX8_span 190 = .ok (.ireturn, 1) := dk_172 (dk_at dksX8_span_8 5 rfl rfl)
abbrev cX8_image : ByteArray := prog_24_method_106_code
def yX8_image : MethodName := ⟨RX8, "image", "()I"⟩
def dkwX8_image_1 : List UInt8 := [42, 89, 180, 0, 195, 4, 96, 181, 0, 195, 42, 180, 0, 195, 172]
abbrev dktX8_image_1 : List UInt8 := dkwX8_image_1 ++ []
def dkwX8_image_0 : List UInt8 := [42, 3, 181, 0, 3, 42, 180, 0, 195, 6, 160, 0, 5, 2, 172, 42, 42, 180, 0, 195, 4, 182, 1, 196]
abbrev dktX8_image_0 : List UInt8 := dkwX8_image_0 ++ dktX8_image_1
theorem dksX8_image_0 : cX8_image.data.toList.drop 0 = dktX8_image_0 := by decide +kernel
theorem dksX8_image_1 : cX8_image.data.toList.drop 24 = dktX8_image_1 := dk_seg dksX8_image_0 24 rfl rfl
theorem dX8_image_0 : decode cX8_image 0 = .ok (.aload_n 0, 1) := dk_42 (dk_at dksX8_image_0 0 rfl rfl)
theorem dX8_image_1 : decode cX8_image 1 = .ok (.iconst 0, 1) := dk_3 (dk_at dksX8_image_0 1 rfl rfl)
theorem dX8_image_2 : decode cX8_image 2 = .ok (.putfield 3, 3) := dk_181 0 3 (dk_at dksX8_image_0 2 rfl rfl)
theorem dX8_image_5 : decode cX8_image 5 = .ok (.aload_n 0, 1) := dk_42 (dk_at dksX8_image_0 5 rfl rfl)
theorem dX8_image_6 : decode cX8_image 6 = .ok (.getfield 195, 3) := dk_180 0 195 (dk_at dksX8_image_0 6 rfl rfl)
theorem dX8_image_9 : decode cX8_image 9 = .ok (.iconst 3, 1) := dk_6 (dk_at dksX8_image_0 9 rfl rfl)
theorem dX8_image_10 : decode cX8_image 10 = .ok (.if_icmp .ne 5, 3) := dk_160 0 5 (dk_at dksX8_image_0 10 rfl rfl)
theorem dX8_image_13 : decode cX8_image 13 = .ok (.iconst (-1), 1) := dk_2 (dk_at dksX8_image_0 13 rfl rfl)
theorem dX8_image_14 : decode cX8_image 14 = .ok (.ireturn, 1) := dk_172 (dk_at dksX8_image_0 14 rfl rfl)
theorem dX8_image_15 : decode cX8_image 15 = .ok (.aload_n 0, 1) := dk_42 (dk_at dksX8_image_0 15 rfl rfl)
theorem dX8_image_16 : decode cX8_image 16 = .ok (.aload_n 0, 1) := dk_42 (dk_at dksX8_image_0 16 rfl rfl)
theorem dX8_image_17 : decode cX8_image 17 = .ok (.getfield 195, 3) := dk_180 0 195 (dk_at dksX8_image_0 17 rfl rfl)
theorem dX8_image_20 : decode cX8_image 20 = .ok (.iconst 1, 1) := dk_4 (dk_at dksX8_image_0 20 rfl rfl)
theorem dX8_image_21 : decode cX8_image 21 = .ok (.invokevirtual 452, 3) := dk_182 1 196 (dk_at dksX8_image_0 21 rfl rfl)
theorem dX8_image_24 : decode cX8_image 24 = .ok (.aload_n 0, 1) := dk_42 (dk_at dksX8_image_1 0 rfl rfl)
theorem dX8_image_25 : decode cX8_image 25 = .ok (.dup, 1) := dk_89 (dk_at dksX8_image_1 1 rfl rfl)
theorem dX8_image_26 : decode cX8_image 26 = .ok (.getfield 195, 3) := dk_180 0 195 (dk_at dksX8_image_1 2 rfl rfl)
theorem dX8_image_29 : decode cX8_image 29 = .ok (.iconst 1, 1) := dk_4 (dk_at dksX8_image_1 5 rfl rfl)
theorem dX8_image_30 : decode cX8_image 30 = .ok (.iadd, 1) := dk_96 (dk_at dksX8_image_1 6 rfl rfl)
theorem dX8_image_31 : decode cX8_image 31 = .ok (.putfield 195, 3) := dk_181 0 195 (dk_at dksX8_image_1 7 rfl rfl)
theorem dX8_image_34 : decode cX8_image 34 = .ok (.aload_n 0, 1) := dk_42 (dk_at dksX8_image_1 10 rfl rfl)
theorem dX8_image_35 : decode cX8_image 35 = .ok (.getfield 195, 3) := dk_180 0 195 (dk_at dksX8_image_1 11 rfl rfl)
theorem dX8_image_38 : decode cX8_image 38 = .ok (.ireturn, 1) := dk_172 (dk_at dksX8_image_1 14 rfl rfl)
abbrev cX8_keepsAll : ByteArray := prog_24_method_105_code
def yX8_keepsAll : MethodName := ⟨RX8, "keepsAll", "(IZ)V"⟩
def dkwX8_keepsAll_2 : List UInt8 := [167, 0, 13, 42, 42, 180, 0, 115, 29, 46, 181, 0, 192, 177]
abbrev dktX8_keepsAll_2 : List UInt8 := dkwX8_keepsAll_2 ++ []
def dkwX8_keepsAll_1 : List UInt8 := [17, 3, 32, 28, 182, 1, 192, 62, 28, 153, 0, 16, 42, 180, 0, 115, 29, 42, 180, 0, 192, 79]
abbrev dktX8_keepsAll_1 : List UInt8 := dkwX8_keepsAll_1 ++ dktX8_keepsAll_2
def dkwX8_keepsAll_0 : List UInt8 := [42, 17, 3, 83, 27, 104, 42, 180, 0, 71, 16, 50, 28, 182, 1, 192, 62, 42, 29, 42, 180, 0, 77]
abbrev dktX8_keepsAll_0 : List UInt8 := dkwX8_keepsAll_0 ++ dktX8_keepsAll_1
theorem dksX8_keepsAll_0 : cX8_keepsAll.data.toList.drop 0 = dktX8_keepsAll_0 := by decide +kernel
theorem dksX8_keepsAll_1 : cX8_keepsAll.data.toList.drop 23 = dktX8_keepsAll_1 := dk_seg dksX8_keepsAll_0 23 rfl rfl
theorem dksX8_keepsAll_2 : cX8_keepsAll.data.toList.drop 45 = dktX8_keepsAll_2 := dk_seg dksX8_keepsAll_1 22 rfl rfl
theorem dX8_keepsAll_0 : decode cX8_keepsAll 0 = .ok (.aload_n 0, 1) := dk_42 (dk_at dksX8_keepsAll_0 0 rfl rfl)
theorem dX8_keepsAll_1 : decode cX8_keepsAll 1 = .ok (.sipush 851, 3) := dk_17 3 83 (dk_at dksX8_keepsAll_0 1 rfl rfl)
theorem dX8_keepsAll_4 : decode cX8_keepsAll 4 = .ok (.iload_n 1, 1) := dk_27 (dk_at dksX8_keepsAll_0 4 rfl rfl)
theorem dX8_keepsAll_5 : decode cX8_keepsAll 5 = .ok (.imul, 1) := dk_104 (dk_at dksX8_keepsAll_0 5 rfl rfl)
theorem dX8_keepsAll_6 : decode cX8_keepsAll 6 = .ok (.aload_n 0, 1) := dk_42 (dk_at dksX8_keepsAll_0 6 rfl rfl)
theorem dX8_keepsAll_7 : decode cX8_keepsAll 7 = .ok (.getfield 71, 3) := dk_180 0 71 (dk_at dksX8_keepsAll_0 7 rfl rfl)
theorem dX8_keepsAll_10 : decode cX8_keepsAll 10 = .ok (.bipush 50, 2) := dk_16 50 (dk_at dksX8_keepsAll_0 10 rfl rfl)
theorem dX8_keepsAll_12 : decode cX8_keepsAll 12 = .ok (.iload_n 2, 1) := dk_28 (dk_at dksX8_keepsAll_0 12 rfl rfl)
theorem dX8_keepsAll_13 : decode cX8_keepsAll 13 = .ok (.invokevirtual 448, 3) := dk_182 1 192 (dk_at dksX8_keepsAll_0 13 rfl rfl)
theorem dX8_keepsAll_16 : decode cX8_keepsAll 16 = .ok (.istore_n 3, 1) := dk_62 (dk_at dksX8_keepsAll_0 16 rfl rfl)
theorem dX8_keepsAll_17 : decode cX8_keepsAll 17 = .ok (.aload_n 0, 1) := dk_42 (dk_at dksX8_keepsAll_0 17 rfl rfl)
theorem dX8_keepsAll_18 : decode cX8_keepsAll 18 = .ok (.iload_n 3, 1) := dk_29 (dk_at dksX8_keepsAll_0 18 rfl rfl)
theorem dX8_keepsAll_19 : decode cX8_keepsAll 19 = .ok (.aload_n 0, 1) := dk_42 (dk_at dksX8_keepsAll_0 19 rfl rfl)
theorem dX8_keepsAll_20 : decode cX8_keepsAll 20 = .ok (.getfield 77, 3) := dk_180 0 77 (dk_at dksX8_keepsAll_0 20 rfl rfl)
theorem dX8_keepsAll_23 : decode cX8_keepsAll 23 = .ok (.sipush 800, 3) := dk_17 3 32 (dk_at dksX8_keepsAll_1 0 rfl rfl)
theorem dX8_keepsAll_26 : decode cX8_keepsAll 26 = .ok (.iload_n 2, 1) := dk_28 (dk_at dksX8_keepsAll_1 3 rfl rfl)
theorem dX8_keepsAll_27 : decode cX8_keepsAll 27 = .ok (.invokevirtual 448, 3) := dk_182 1 192 (dk_at dksX8_keepsAll_1 4 rfl rfl)
theorem dX8_keepsAll_30 : decode cX8_keepsAll 30 = .ok (.istore_n 3, 1) := dk_62 (dk_at dksX8_keepsAll_1 7 rfl rfl)
theorem dX8_keepsAll_31 : decode cX8_keepsAll 31 = .ok (.iload_n 2, 1) := dk_28 (dk_at dksX8_keepsAll_1 8 rfl rfl)
theorem dX8_keepsAll_32 : decode cX8_keepsAll 32 = .ok (.ifCond .eq 16, 3) := dk_153 0 16 (dk_at dksX8_keepsAll_1 9 rfl rfl)
theorem dX8_keepsAll_35 : decode cX8_keepsAll 35 = .ok (.aload_n 0, 1) := dk_42 (dk_at dksX8_keepsAll_1 12 rfl rfl)
theorem dX8_keepsAll_36 : decode cX8_keepsAll 36 = .ok (.getfield 115, 3) := dk_180 0 115 (dk_at dksX8_keepsAll_1 13 rfl rfl)
theorem dX8_keepsAll_39 : decode cX8_keepsAll 39 = .ok (.iload_n 3, 1) := dk_29 (dk_at dksX8_keepsAll_1 16 rfl rfl)
theorem dX8_keepsAll_40 : decode cX8_keepsAll 40 = .ok (.aload_n 0, 1) := dk_42 (dk_at dksX8_keepsAll_1 17 rfl rfl)
theorem dX8_keepsAll_41 : decode cX8_keepsAll 41 = .ok (.getfield 192, 3) := dk_180 0 192 (dk_at dksX8_keepsAll_1 18 rfl rfl)
theorem dX8_keepsAll_44 : decode cX8_keepsAll 44 = .ok (.iastore, 1) := dk_79 (dk_at dksX8_keepsAll_1 21 rfl rfl)
theorem dX8_keepsAll_45 : decode cX8_keepsAll 45 = .ok (.goto 13, 3) := dk_167 0 13 (dk_at dksX8_keepsAll_2 0 rfl rfl)
theorem dX8_keepsAll_48 : decode cX8_keepsAll 48 = .ok (.aload_n 0, 1) := dk_42 (dk_at dksX8_keepsAll_2 3 rfl rfl)
theorem dX8_keepsAll_49 : decode cX8_keepsAll 49 = .ok (.aload_n 0, 1) := dk_42 (dk_at dksX8_keepsAll_2 4 rfl rfl)
theorem dX8_keepsAll_50 : decode cX8_keepsAll 50 = .ok (.getfield 115, 3) := dk_180 0 115 (dk_at dksX8_keepsAll_2 5 rfl rfl)
theorem dX8_keepsAll_53 : decode cX8_keepsAll 53 = .ok (.iload_n 3, 1) := dk_29 (dk_at dksX8_keepsAll_2 8 rfl rfl)
theorem dX8_keepsAll_54 : decode cX8_keepsAll 54 = .ok (.iaload, 1) := dk_46 (dk_at dksX8_keepsAll_2 9 rfl rfl)
theorem dX8_keepsAll_55 : decode cX8_keepsAll 55 = .ok (.putfield 192, 3) := dk_181 0 192 (dk_at dksX8_keepsAll_2 10 rfl rfl)
theorem dX8_keepsAll_58 : decode cX8_keepsAll 58 = .ok (.return_, 1) := dk_177 (dk_at dksX8_keepsAll_2 13 rfl rfl)
abbrev cX8_keepsRow : ByteArray := prog_24_method_104_code
def yX8_keepsRow : MethodName := ⟨RX8, "keepsRow", "(I[IIZ)I"⟩
def dkwX8_keepsRow_2 : List UInt8 := [167, 255, 213, 27, 29, 96, 172]
abbrev dktX8_keepsRow_2 : List UInt8 := dkwX8_keepsRow_2 ++ []
def dkwX8_keepsRow_1 : List UInt8 := [21, 5, 46, 79, 167, 0, 16, 44, 21, 5, 42, 180, 0, 115, 27, 21, 5, 96, 46, 79, 132, 5, 1]
abbrev dktX8_keepsRow_1 : List UInt8 := dkwX8_keepsRow_1 ++ dktX8_keepsRow_2
def dkwX8_keepsRow_0 : List UInt8 := [3, 54, 5, 21, 5, 29, 162, 0, 43, 21, 4, 153, 0, 19, 42, 180, 0, 115, 27, 21, 5, 96, 44]
abbrev dktX8_keepsRow_0 : List UInt8 := dkwX8_keepsRow_0 ++ dktX8_keepsRow_1
theorem dksX8_keepsRow_0 : cX8_keepsRow.data.toList.drop 0 = dktX8_keepsRow_0 := by decide +kernel
theorem dksX8_keepsRow_1 : cX8_keepsRow.data.toList.drop 23 = dktX8_keepsRow_1 := dk_seg dksX8_keepsRow_0 23 rfl rfl
theorem dksX8_keepsRow_2 : cX8_keepsRow.data.toList.drop 46 = dktX8_keepsRow_2 := dk_seg dksX8_keepsRow_1 23 rfl rfl
theorem dX8_keepsRow_0 : decode cX8_keepsRow 0 = .ok (.iconst 0, 1) := dk_3 (dk_at dksX8_keepsRow_0 0 rfl rfl)
theorem dX8_keepsRow_1 : decode cX8_keepsRow 1 = .ok (.istore 5, 2) := dk_54 5 (dk_at dksX8_keepsRow_0 1 rfl rfl)
theorem dX8_keepsRow_3 : decode cX8_keepsRow 3 = .ok (.iload 5, 2) := dk_21 5 (dk_at dksX8_keepsRow_0 3 rfl rfl)
theorem dX8_keepsRow_5 : decode cX8_keepsRow 5 = .ok (.iload_n 3, 1) := dk_29 (dk_at dksX8_keepsRow_0 5 rfl rfl)
theorem dX8_keepsRow_6 : decode cX8_keepsRow 6 = .ok (.if_icmp .ge 43, 3) := dk_162 0 43 (dk_at dksX8_keepsRow_0 6 rfl rfl)
theorem dX8_keepsRow_9 : decode cX8_keepsRow 9 = .ok (.iload 4, 2) := dk_21 4 (dk_at dksX8_keepsRow_0 9 rfl rfl)
theorem dX8_keepsRow_11 : decode cX8_keepsRow 11 = .ok (.ifCond .eq 19, 3) := dk_153 0 19 (dk_at dksX8_keepsRow_0 11 rfl rfl)
theorem dX8_keepsRow_14 : decode cX8_keepsRow 14 = .ok (.aload_n 0, 1) := dk_42 (dk_at dksX8_keepsRow_0 14 rfl rfl)
theorem dX8_keepsRow_15 : decode cX8_keepsRow 15 = .ok (.getfield 115, 3) := dk_180 0 115 (dk_at dksX8_keepsRow_0 15 rfl rfl)
theorem dX8_keepsRow_18 : decode cX8_keepsRow 18 = .ok (.iload_n 1, 1) := dk_27 (dk_at dksX8_keepsRow_0 18 rfl rfl)
theorem dX8_keepsRow_19 : decode cX8_keepsRow 19 = .ok (.iload 5, 2) := dk_21 5 (dk_at dksX8_keepsRow_0 19 rfl rfl)
theorem dX8_keepsRow_21 : decode cX8_keepsRow 21 = .ok (.iadd, 1) := dk_96 (dk_at dksX8_keepsRow_0 21 rfl rfl)
theorem dX8_keepsRow_22 : decode cX8_keepsRow 22 = .ok (.aload_n 2, 1) := dk_44 (dk_at dksX8_keepsRow_0 22 rfl rfl)
theorem dX8_keepsRow_23 : decode cX8_keepsRow 23 = .ok (.iload 5, 2) := dk_21 5 (dk_at dksX8_keepsRow_1 0 rfl rfl)
theorem dX8_keepsRow_25 : decode cX8_keepsRow 25 = .ok (.iaload, 1) := dk_46 (dk_at dksX8_keepsRow_1 2 rfl rfl)
theorem dX8_keepsRow_26 : decode cX8_keepsRow 26 = .ok (.iastore, 1) := dk_79 (dk_at dksX8_keepsRow_1 3 rfl rfl)
theorem dX8_keepsRow_27 : decode cX8_keepsRow 27 = .ok (.goto 16, 3) := dk_167 0 16 (dk_at dksX8_keepsRow_1 4 rfl rfl)
theorem dX8_keepsRow_30 : decode cX8_keepsRow 30 = .ok (.aload_n 2, 1) := dk_44 (dk_at dksX8_keepsRow_1 7 rfl rfl)
theorem dX8_keepsRow_31 : decode cX8_keepsRow 31 = .ok (.iload 5, 2) := dk_21 5 (dk_at dksX8_keepsRow_1 8 rfl rfl)
theorem dX8_keepsRow_33 : decode cX8_keepsRow 33 = .ok (.aload_n 0, 1) := dk_42 (dk_at dksX8_keepsRow_1 10 rfl rfl)
theorem dX8_keepsRow_34 : decode cX8_keepsRow 34 = .ok (.getfield 115, 3) := dk_180 0 115 (dk_at dksX8_keepsRow_1 11 rfl rfl)
theorem dX8_keepsRow_37 : decode cX8_keepsRow 37 = .ok (.iload_n 1, 1) := dk_27 (dk_at dksX8_keepsRow_1 14 rfl rfl)
theorem dX8_keepsRow_38 : decode cX8_keepsRow 38 = .ok (.iload 5, 2) := dk_21 5 (dk_at dksX8_keepsRow_1 15 rfl rfl)
theorem dX8_keepsRow_40 : decode cX8_keepsRow 40 = .ok (.iadd, 1) := dk_96 (dk_at dksX8_keepsRow_1 17 rfl rfl)
theorem dX8_keepsRow_41 : decode cX8_keepsRow 41 = .ok (.iaload, 1) := dk_46 (dk_at dksX8_keepsRow_1 18 rfl rfl)
theorem dX8_keepsRow_42 : decode cX8_keepsRow 42 = .ok (.iastore, 1) := dk_79 (dk_at dksX8_keepsRow_1 19 rfl rfl)
theorem dX8_keepsRow_43 : decode cX8_keepsRow 43 = .ok (.iinc 5 1, 3) := dk_132 5 1 (dk_at dksX8_keepsRow_1 20 rfl rfl)
theorem dX8_keepsRow_46 : decode cX8_keepsRow 46 = .ok (.goto (-43), 3) := dk_167 255 213 (dk_at dksX8_keepsRow_2 0 rfl rfl)
theorem dX8_keepsRow_49 : decode cX8_keepsRow 49 = .ok (.iload_n 1, 1) := dk_27 (dk_at dksX8_keepsRow_2 3 rfl rfl)
theorem dX8_keepsRow_50 : decode cX8_keepsRow 50 = .ok (.iload_n 3, 1) := dk_29 (dk_at dksX8_keepsRow_2 4 rfl rfl)
theorem dX8_keepsRow_51 : decode cX8_keepsRow 51 = .ok (.iadd, 1) := dk_96 (dk_at dksX8_keepsRow_2 5 rfl rfl)
theorem dX8_keepsRow_52 : decode cX8_keepsRow 52 = .ok (.ireturn, 1) := dk_172 (dk_at dksX8_keepsRow_2 6 rfl rfl)
abbrev cX8_restore : ByteArray := prog_24_method_107_code
def yX8_restore : MethodName := ⟨RX8, "restore", "()I"⟩
def dkwX8_restore_1 : List UInt8 := [42, 42, 180, 0, 195, 3, 182, 1, 196, 42, 3, 181, 0, 198, 42, 180, 0, 195, 172]
abbrev dktX8_restore_1 : List UInt8 := dkwX8_restore_1 ++ []
def dkwX8_restore_0 : List UInt8 := [42, 3, 181, 0, 3, 42, 180, 0, 195, 154, 0, 5, 2, 172, 42, 89, 180, 0, 195, 4, 100, 181, 0, 195]
abbrev dktX8_restore_0 : List UInt8 := dkwX8_restore_0 ++ dktX8_restore_1
theorem dksX8_restore_0 : cX8_restore.data.toList.drop 0 = dktX8_restore_0 := by decide +kernel
theorem dksX8_restore_1 : cX8_restore.data.toList.drop 24 = dktX8_restore_1 := dk_seg dksX8_restore_0 24 rfl rfl
theorem dX8_restore_0 : decode cX8_restore 0 = .ok (.aload_n 0, 1) := dk_42 (dk_at dksX8_restore_0 0 rfl rfl)
theorem dX8_restore_1 : decode cX8_restore 1 = .ok (.iconst 0, 1) := dk_3 (dk_at dksX8_restore_0 1 rfl rfl)
theorem dX8_restore_2 : decode cX8_restore 2 = .ok (.putfield 3, 3) := dk_181 0 3 (dk_at dksX8_restore_0 2 rfl rfl)
theorem dX8_restore_5 : decode cX8_restore 5 = .ok (.aload_n 0, 1) := dk_42 (dk_at dksX8_restore_0 5 rfl rfl)
theorem dX8_restore_6 : decode cX8_restore 6 = .ok (.getfield 195, 3) := dk_180 0 195 (dk_at dksX8_restore_0 6 rfl rfl)
theorem dX8_restore_9 : decode cX8_restore 9 = .ok (.ifCond .ne 5, 3) := dk_154 0 5 (dk_at dksX8_restore_0 9 rfl rfl)
theorem dX8_restore_12 : decode cX8_restore 12 = .ok (.iconst (-1), 1) := dk_2 (dk_at dksX8_restore_0 12 rfl rfl)
theorem dX8_restore_13 : decode cX8_restore 13 = .ok (.ireturn, 1) := dk_172 (dk_at dksX8_restore_0 13 rfl rfl)
theorem dX8_restore_14 : decode cX8_restore 14 = .ok (.aload_n 0, 1) := dk_42 (dk_at dksX8_restore_0 14 rfl rfl)
theorem dX8_restore_15 : decode cX8_restore 15 = .ok (.dup, 1) := dk_89 (dk_at dksX8_restore_0 15 rfl rfl)
theorem dX8_restore_16 : decode cX8_restore 16 = .ok (.getfield 195, 3) := dk_180 0 195 (dk_at dksX8_restore_0 16 rfl rfl)
theorem dX8_restore_19 : decode cX8_restore 19 = .ok (.iconst 1, 1) := dk_4 (dk_at dksX8_restore_0 19 rfl rfl)
theorem dX8_restore_20 : decode cX8_restore 20 = .ok (.isub, 1) := dk_100 (dk_at dksX8_restore_0 20 rfl rfl)
theorem dX8_restore_21 : decode cX8_restore 21 = .ok (.putfield 195, 3) := dk_181 0 195 (dk_at dksX8_restore_0 21 rfl rfl)
theorem dX8_restore_24 : decode cX8_restore 24 = .ok (.aload_n 0, 1) := dk_42 (dk_at dksX8_restore_1 0 rfl rfl)
theorem dX8_restore_25 : decode cX8_restore 25 = .ok (.aload_n 0, 1) := dk_42 (dk_at dksX8_restore_1 1 rfl rfl)
theorem dX8_restore_26 : decode cX8_restore 26 = .ok (.getfield 195, 3) := dk_180 0 195 (dk_at dksX8_restore_1 2 rfl rfl)
theorem dX8_restore_29 : decode cX8_restore 29 = .ok (.iconst 0, 1) := dk_3 (dk_at dksX8_restore_1 5 rfl rfl)
theorem dX8_restore_30 : decode cX8_restore 30 = .ok (.invokevirtual 452, 3) := dk_182 1 196 (dk_at dksX8_restore_1 6 rfl rfl)
theorem dX8_restore_33 : decode cX8_restore 33 = .ok (.aload_n 0, 1) := dk_42 (dk_at dksX8_restore_1 9 rfl rfl)
theorem dX8_restore_34 : decode cX8_restore 34 = .ok (.iconst 0, 1) := dk_3 (dk_at dksX8_restore_1 10 rfl rfl)
theorem dX8_restore_35 : decode cX8_restore 35 = .ok (.putfield 198, 3) := dk_181 0 198 (dk_at dksX8_restore_1 11 rfl rfl)
theorem dX8_restore_38 : decode cX8_restore 38 = .ok (.aload_n 0, 1) := dk_42 (dk_at dksX8_restore_1 14 rfl rfl)
theorem dX8_restore_39 : decode cX8_restore 39 = .ok (.getfield 195, 3) := dk_180 0 195 (dk_at dksX8_restore_1 15 rfl rfl)
theorem dX8_restore_42 : decode cX8_restore 42 = .ok (.ireturn, 1) := dk_172 (dk_at dksX8_restore_1 18 rfl rfl)
abbrev cX8_status : ByteArray := prog_24_method_108_code
def yX8_status : MethodName := ⟨RX8, "status", "(I)I"⟩
def dkwX8_status_1 : List UInt8 := [172]
abbrev dktX8_status_1 : List UInt8 := dkwX8_status_1 ++ []
def dkwX8_status_0 : List UInt8 := [42, 3, 181, 0, 3, 27, 3, 4, 184, 1, 122, 153, 0, 12, 42, 180, 0, 7, 27, 46, 167, 0, 4, 2]
abbrev dktX8_status_0 : List UInt8 := dkwX8_status_0 ++ dktX8_status_1
theorem dksX8_status_0 : cX8_status.data.toList.drop 0 = dktX8_status_0 := by decide +kernel
theorem dksX8_status_1 : cX8_status.data.toList.drop 24 = dktX8_status_1 := dk_seg dksX8_status_0 24 rfl rfl
theorem dX8_status_0 : decode cX8_status 0 = .ok (.aload_n 0, 1) := dk_42 (dk_at dksX8_status_0 0 rfl rfl)
theorem dX8_status_1 : decode cX8_status 1 = .ok (.iconst 0, 1) := dk_3 (dk_at dksX8_status_0 1 rfl rfl)
theorem dX8_status_2 : decode cX8_status 2 = .ok (.putfield 3, 3) := dk_181 0 3 (dk_at dksX8_status_0 2 rfl rfl)
theorem dX8_status_5 : decode cX8_status 5 = .ok (.iload_n 1, 1) := dk_27 (dk_at dksX8_status_0 5 rfl rfl)
theorem dX8_status_6 : decode cX8_status 6 = .ok (.iconst 0, 1) := dk_3 (dk_at dksX8_status_0 6 rfl rfl)
theorem dX8_status_7 : decode cX8_status 7 = .ok (.iconst 1, 1) := dk_4 (dk_at dksX8_status_0 7 rfl rfl)
theorem dX8_status_8 : decode cX8_status 8 = .ok (.invokestatic 378, 3) := dk_184 1 122 (dk_at dksX8_status_0 8 rfl rfl)
theorem dX8_status_11 : decode cX8_status 11 = .ok (.ifCond .eq 12, 3) := dk_153 0 12 (dk_at dksX8_status_0 11 rfl rfl)
theorem dX8_status_14 : decode cX8_status 14 = .ok (.aload_n 0, 1) := dk_42 (dk_at dksX8_status_0 14 rfl rfl)
theorem dX8_status_15 : decode cX8_status 15 = .ok (.getfield 7, 3) := dk_180 0 7 (dk_at dksX8_status_0 15 rfl rfl)
theorem dX8_status_18 : decode cX8_status 18 = .ok (.iload_n 1, 1) := dk_27 (dk_at dksX8_status_0 18 rfl rfl)
theorem dX8_status_19 : decode cX8_status 19 = .ok (.iaload, 1) := dk_46 (dk_at dksX8_status_0 19 rfl rfl)
theorem dX8_status_20 : decode cX8_status 20 = .ok (.goto 4, 3) := dk_167 0 4 (dk_at dksX8_status_0 20 rfl rfl)
theorem dX8_status_23 : decode cX8_status 23 = .ok (.iconst (-1), 1) := dk_2 (dk_at dksX8_status_0 23 rfl rfl)
theorem dX8_status_24 : decode cX8_status 24 = .ok (.ireturn, 1) := dk_172 (dk_at dksX8_status_1 0 rfl rfl)
abbrev cX8_count : ByteArray := prog_24_method_109_code
def yX8_count : MethodName := ⟨RX8, "count", "(I)I"⟩
def dkwX8_count_1 : List UInt8 := [180, 0, 124, 167, 0, 16, 27, 5, 160, 0, 10, 42, 180, 0, 192, 167, 0, 4, 2, 172]
abbrev dktX8_count_1 : List UInt8 := dkwX8_count_1 ++ []
def dkwX8_count_0 : List UInt8 := [42, 3, 181, 0, 3, 27, 154, 0, 10, 42, 180, 0, 195, 167, 0, 28, 27, 4, 160, 0, 10, 42]
abbrev dktX8_count_0 : List UInt8 := dkwX8_count_0 ++ dktX8_count_1
theorem dksX8_count_0 : cX8_count.data.toList.drop 0 = dktX8_count_0 := by decide +kernel
theorem dksX8_count_1 : cX8_count.data.toList.drop 22 = dktX8_count_1 := dk_seg dksX8_count_0 22 rfl rfl
theorem dX8_count_0 : decode cX8_count 0 = .ok (.aload_n 0, 1) := dk_42 (dk_at dksX8_count_0 0 rfl rfl)
theorem dX8_count_1 : decode cX8_count 1 = .ok (.iconst 0, 1) := dk_3 (dk_at dksX8_count_0 1 rfl rfl)
theorem dX8_count_2 : decode cX8_count 2 = .ok (.putfield 3, 3) := dk_181 0 3 (dk_at dksX8_count_0 2 rfl rfl)
theorem dX8_count_5 : decode cX8_count 5 = .ok (.iload_n 1, 1) := dk_27 (dk_at dksX8_count_0 5 rfl rfl)
theorem dX8_count_6 : decode cX8_count 6 = .ok (.ifCond .ne 10, 3) := dk_154 0 10 (dk_at dksX8_count_0 6 rfl rfl)
theorem dX8_count_9 : decode cX8_count 9 = .ok (.aload_n 0, 1) := dk_42 (dk_at dksX8_count_0 9 rfl rfl)
theorem dX8_count_10 : decode cX8_count 10 = .ok (.getfield 195, 3) := dk_180 0 195 (dk_at dksX8_count_0 10 rfl rfl)
theorem dX8_count_13 : decode cX8_count 13 = .ok (.goto 28, 3) := dk_167 0 28 (dk_at dksX8_count_0 13 rfl rfl)
theorem dX8_count_16 : decode cX8_count 16 = .ok (.iload_n 1, 1) := dk_27 (dk_at dksX8_count_0 16 rfl rfl)
theorem dX8_count_17 : decode cX8_count 17 = .ok (.iconst 1, 1) := dk_4 (dk_at dksX8_count_0 17 rfl rfl)
theorem dX8_count_18 : decode cX8_count 18 = .ok (.if_icmp .ne 10, 3) := dk_160 0 10 (dk_at dksX8_count_0 18 rfl rfl)
theorem dX8_count_21 : decode cX8_count 21 = .ok (.aload_n 0, 1) := dk_42 (dk_at dksX8_count_0 21 rfl rfl)
theorem dX8_count_22 : decode cX8_count 22 = .ok (.getfield 124, 3) := dk_180 0 124 (dk_at dksX8_count_1 0 rfl rfl)
theorem dX8_count_25 : decode cX8_count 25 = .ok (.goto 16, 3) := dk_167 0 16 (dk_at dksX8_count_1 3 rfl rfl)
theorem dX8_count_28 : decode cX8_count 28 = .ok (.iload_n 1, 1) := dk_27 (dk_at dksX8_count_1 6 rfl rfl)
theorem dX8_count_29 : decode cX8_count 29 = .ok (.iconst 2, 1) := dk_5 (dk_at dksX8_count_1 7 rfl rfl)
theorem dX8_count_30 : decode cX8_count 30 = .ok (.if_icmp .ne 10, 3) := dk_160 0 10 (dk_at dksX8_count_1 8 rfl rfl)
theorem dX8_count_33 : decode cX8_count 33 = .ok (.aload_n 0, 1) := dk_42 (dk_at dksX8_count_1 11 rfl rfl)
theorem dX8_count_34 : decode cX8_count 34 = .ok (.getfield 192, 3) := dk_180 0 192 (dk_at dksX8_count_1 12 rfl rfl)
theorem dX8_count_37 : decode cX8_count 37 = .ok (.goto 4, 3) := dk_167 0 4 (dk_at dksX8_count_1 15 rfl rfl)
theorem dX8_count_40 : decode cX8_count 40 = .ok (.iconst (-1), 1) := dk_2 (dk_at dksX8_count_1 18 rfl rfl)
theorem dX8_count_41 : decode cX8_count 41 = .ok (.ireturn, 1) := dk_172 (dk_at dksX8_count_1 19 rfl rfl)
theorem q94 : (Jvm.Cond.initialized "GrowingDoorModel") ∈ lw_all := lw_g (lw_at lw_m1 9 rfl) rfl
theorem q1433 : (Jvm.Cond.instanceMethod ({ cls := "GrowingDoorModel", name := "thrown", desc := "()I" } : Jvm.MethodName)) ∈ lw_all := lw_g (lw_at lw_m6 148 rfl) rfl
theorem q1434 : (Jvm.Cond.selects "GrowingDoorModel" ({ cls := "GrowingDoorModel", name := "thrown", desc := "()I" } : Jvm.MethodName) ({ cls := "GrowingDoorModel", name := "thrown", desc := "()I" } : Jvm.MethodName)) ∈ lw_all := lw_g (lw_at lw_m6 149 rfl) rfl
theorem q1435 : (Jvm.Cond.code ({ cls := "GrowingDoorModel", name := "thrown", desc := "()I" } : Jvm.MethodName) prog_24_method_1_code (1 : Nat) (Option.some Jvm.ClassFile.FieldType.int)) ∈ lw_all := lw_g (lw_at lw_m6 150 rfl) rfl
theorem q1437 : (Jvm.Cond.instantiable "GrowingDoorModel" (57 : Nat)) ∈ lw_all := lw_g (lw_at lw_m6 152 rfl) rfl
theorem q1439 : (Jvm.Cond.instanceMethod ({ cls := "GrowingDoorModel", name := "<init>", desc := "()V" } : Jvm.MethodName)) ∈ lw_all := lw_g (lw_at lw_m6 154 rfl) rfl
theorem q1440 : (Jvm.Cond.code ({ cls := "GrowingDoorModel", name := "<init>", desc := "()V" } : Jvm.MethodName) prog_24_method_4_code (1 : Nat) (Option.none : Option Jvm.ClassFile.FieldType)) ∈ lw_all := lw_g (lw_at lw_m6 155 rfl) rfl
theorem q1441 : (Jvm.Cond.methodLink "GrowingDoorModel" (11 : Nat) ({ cls := "java/lang/Object", name := "<init>", desc := "()V" } : Jvm.MethodName)) ∈ lw_all := lw_g (lw_at lw_m6 156 rfl) rfl
theorem q1442 : (Jvm.Cond.methodLink "GrowingDoorModel" (118 : Nat) ({ cls := "GrowingDoorModel", name := "clears", desc := "()V" } : Jvm.MethodName)) ∈ lw_all := lw_g (lw_at lw_m6 157 rfl) rfl
theorem q1443 : (Jvm.Cond.privateMethod ({ cls := "GrowingDoorModel", name := "clears", desc := "()V" } : Jvm.MethodName)) ∈ lw_tbl := lw_at lw_m6 158 rfl
theorem q1444 : (Jvm.Cond.instanceMethod ({ cls := "GrowingDoorModel", name := "clears", desc := "()V" } : Jvm.MethodName)) ∈ lw_all := lw_g (lw_at lw_m6 159 rfl) rfl
theorem q1445 : (Jvm.Cond.code ({ cls := "GrowingDoorModel", name := "clears", desc := "()V" } : Jvm.MethodName) prog_24_method_21_code (2 : Nat) (Option.none : Option Jvm.ClassFile.FieldType)) ∈ lw_all := lw_g (lw_at lw_m6 160 rfl) rfl
theorem q1446 : (Jvm.Cond.methodLink "GrowingDoorModel" (121 : Nat) ({ cls := "GrowingDoorModel", name := "sets", desc := "()V" } : Jvm.MethodName)) ∈ lw_all := lw_g (lw_at lw_m6 161 rfl) rfl
theorem q1447 : (Jvm.Cond.privateMethod ({ cls := "GrowingDoorModel", name := "sets", desc := "()V" } : Jvm.MethodName)) ∈ lw_tbl := lw_at lw_m6 162 rfl
theorem q1448 : (Jvm.Cond.instanceMethod ({ cls := "GrowingDoorModel", name := "sets", desc := "()V" } : Jvm.MethodName)) ∈ lw_all := lw_g (lw_at lw_m6 163 rfl) rfl
theorem q1449 : (Jvm.Cond.code ({ cls := "GrowingDoorModel", name := "sets", desc := "()V" } : Jvm.MethodName) prog_24_method_22_code (2 : Nat) (Option.none : Option Jvm.ClassFile.FieldType)) ∈ lw_all := lw_g (lw_at lw_m6 164 rfl) rfl
theorem q1450 : (Jvm.Cond.methodLink "GrowingDoorModel" (182 : Nat) ({ cls := "GrowingDoorModel", name := "copies", desc := "([I[II)V" } : Jvm.MethodName)) ∈ lw_all := lw_g (lw_at lw_m6 165 rfl) rfl
theorem q1451 : (Jvm.Cond.privateMethod ({ cls := "GrowingDoorModel", name := "copies", desc := "([I[II)V" } : Jvm.MethodName)) ∈ lw_tbl := lw_at lw_m6 166 rfl
theorem q1452 : (Jvm.Cond.instanceMethod ({ cls := "GrowingDoorModel", name := "copies", desc := "([I[II)V" } : Jvm.MethodName)) ∈ lw_all := lw_g (lw_at lw_m6 167 rfl) rfl
theorem q1453 : (Jvm.Cond.code ({ cls := "GrowingDoorModel", name := "copies", desc := "([I[II)V" } : Jvm.MethodName) prog_24_method_20_code (5 : Nat) (Option.none : Option Jvm.ClassFile.FieldType)) ∈ lw_all := lw_g (lw_at lw_m6 168 rfl) rfl
theorem q1454 : (Jvm.Cond.fieldLink "GrowingDoorModel" (3 : Nat) "GrowingDoorModel" "thrown" "I") ∈ lw_all := lw_g (lw_at lw_m6 169 rfl) rfl
theorem q1455 : (Jvm.Cond.fieldLink "GrowingDoorModel" (7 : Nat) "GrowingDoorModel" "refused" "[I") ∈ lw_all := lw_g (lw_at lw_m6 170 rfl) rfl
theorem q1456 : (Jvm.Cond.fieldLink "GrowingDoorModel" (124 : Nat) "GrowingDoorModel" "taped" "I") ∈ lw_all := lw_g (lw_at lw_m6 171 rfl) rfl
theorem q1457 : (Jvm.Cond.fieldLink "GrowingDoorModel" (136 : Nat) "GrowingDoorModel" "size" "I") ∈ lw_all := lw_g (lw_at lw_m6 172 rfl) rfl
theorem q1458 : (Jvm.Cond.fieldLink "GrowingDoorModel" (133 : Nat) "GrowingDoorModel" "at" "I") ∈ lw_all := lw_g (lw_at lw_m6 173 rfl) rfl
theorem q1459 : (Jvm.Cond.fieldLink "GrowingDoorModel" (127 : Nat) "GrowingDoorModel" "bad" "I") ∈ lw_all := lw_g (lw_at lw_m6 174 rfl) rfl
theorem q1460 : (Jvm.Cond.fieldLink "GrowingDoorModel" (130 : Nat) "GrowingDoorModel" "badKind" "I") ∈ lw_all := lw_g (lw_at lw_m6 175 rfl) rfl
theorem q1461 : (Jvm.Cond.fieldLink "GrowingDoorModel" (167 : Nat) "GrowingDoorModel" "opens" "I") ∈ lw_all := lw_g (lw_at lw_m6 176 rfl) rfl
theorem q1462 : (Jvm.Cond.fieldLink "GrowingDoorModel" (17 : Nat) "GrowingDoorModel" "faultAt" "I") ∈ lw_all := lw_g (lw_at lw_m6 177 rfl) rfl
theorem q1463 : (Jvm.Cond.fieldLink "GrowingDoorModel" (20 : Nat) "GrowingDoorModel" "tape" "[I") ∈ lw_all := lw_g (lw_at lw_m6 178 rfl) rfl
theorem q1464 : (Jvm.Cond.fieldLink "GrowingDoorModel" (23 : Nat) "GrowingDoorModel" "newBoard" "[I") ∈ lw_all := lw_g (lw_at lw_m6 179 rfl) rfl
theorem q1465 : (Jvm.Cond.fieldLink "GrowingDoorModel" (26 : Nat) "GrowingDoorModel" "newBoy" "[I") ∈ lw_all := lw_g (lw_at lw_m6 180 rfl) rfl
theorem q1466 : (Jvm.Cond.fieldLink "GrowingDoorModel" (29 : Nat) "GrowingDoorModel" "newKin" "[I") ∈ lw_all := lw_g (lw_at lw_m6 181 rfl) rfl
theorem q1467 : (Jvm.Cond.fieldLink "GrowingDoorModel" (32 : Nat) "GrowingDoorModel" "newRain" "[I") ∈ lw_all := lw_g (lw_at lw_m6 182 rfl) rfl
theorem q1468 : (Jvm.Cond.fieldLink "GrowingDoorModel" (35 : Nat) "GrowingDoorModel" "board" "[I") ∈ lw_all := lw_g (lw_at lw_m6 183 rfl) rfl
theorem q1469 : (Jvm.Cond.fieldLink "GrowingDoorModel" (38 : Nat) "GrowingDoorModel" "boy" "[I") ∈ lw_all := lw_g (lw_at lw_m6 184 rfl) rfl
theorem q1470 : (Jvm.Cond.fieldLink "GrowingDoorModel" (41 : Nat) "GrowingDoorModel" "kin" "[I") ∈ lw_all := lw_g (lw_at lw_m6 185 rfl) rfl
theorem q1471 : (Jvm.Cond.fieldLink "GrowingDoorModel" (44 : Nat) "GrowingDoorModel" "rain" "[I") ∈ lw_all := lw_g (lw_at lw_m6 186 rfl) rfl
theorem q1472 : (Jvm.Cond.fieldLink "GrowingDoorModel" (170 : Nat) "GrowingDoorModel" "newBoards" "I") ∈ lw_all := lw_g (lw_at lw_m6 187 rfl) rfl
theorem q1473 : (Jvm.Cond.fieldLink "GrowingDoorModel" (173 : Nat) "GrowingDoorModel" "newBoys" "I") ∈ lw_all := lw_g (lw_at lw_m6 188 rfl) rfl
theorem q1474 : (Jvm.Cond.fieldLink "GrowingDoorModel" (176 : Nat) "GrowingDoorModel" "boards" "I") ∈ lw_all := lw_g (lw_at lw_m6 189 rfl) rfl
theorem q1475 : (Jvm.Cond.fieldLink "GrowingDoorModel" (179 : Nat) "GrowingDoorModel" "boys" "I") ∈ lw_all := lw_g (lw_at lw_m6 190 rfl) rfl
theorem q1476 : (Jvm.Cond.fieldLink "GrowingDoorModel" (47 : Nat) "GrowingDoorModel" "newCode" "[I") ∈ lw_all := lw_g (lw_at lw_m6 191 rfl) rfl
theorem q1477 : (Jvm.Cond.fieldLink "GrowingDoorModel" (50 : Nat) "GrowingDoorModel" "newOf" "[I") ∈ lw_all := lw_g (lw_at lw_m6 192 rfl) rfl
theorem q1478 : (Jvm.Cond.fieldLink "GrowingDoorModel" (53 : Nat) "GrowingDoorModel" "code" "[I") ∈ lw_all := lw_g (lw_at lw_m6 193 rfl) rfl
theorem q1479 : (Jvm.Cond.fieldLink "GrowingDoorModel" (56 : Nat) "GrowingDoorModel" "ofCode" "[I") ∈ lw_all := lw_g (lw_at lw_m6 194 rfl) rfl
theorem q1480 : (Jvm.Cond.fieldLink "GrowingDoorModel" (59 : Nat) "GrowingDoorModel" "stack" "[I") ∈ lw_all := lw_g (lw_at lw_m6 195 rfl) rfl
theorem q1481 : (Jvm.Cond.fieldLink "GrowingDoorModel" (246 : Nat) "GrowingDoorModel" "newCodes" "I") ∈ lw_all := lw_g (lw_at lw_m6 196 rfl) rfl
theorem q1482 : (Jvm.Cond.fieldLink "GrowingDoorModel" (186 : Nat) "GrowingDoorModel" "codes" "I") ∈ lw_all := lw_g (lw_at lw_m6 197 rfl) rfl
theorem q1483 : (Jvm.Cond.fieldLink "GrowingDoorModel" (62 : Nat) "GrowingDoorModel" "facts" "[I") ∈ lw_all := lw_g (lw_at lw_m6 198 rfl) rfl
theorem q1484 : (Jvm.Cond.fieldLink "GrowingDoorModel" (65 : Nat) "GrowingDoorModel" "newStep" "[I") ∈ lw_all := lw_g (lw_at lw_m6 199 rfl) rfl
theorem q1485 : (Jvm.Cond.fieldLink "GrowingDoorModel" (68 : Nat) "GrowingDoorModel" "step" "[I") ∈ lw_all := lw_g (lw_at lw_m6 200 rfl) rfl
theorem q1486 : (Jvm.Cond.fieldLink "GrowingDoorModel" (291 : Nat) "GrowingDoorModel" "newSteps" "I") ∈ lw_all := lw_g (lw_at lw_m6 201 rfl) rfl
theorem q1487 : (Jvm.Cond.fieldLink "GrowingDoorModel" (192 : Nat) "GrowingDoorModel" "works" "I") ∈ lw_all := lw_g (lw_at lw_m6 202 rfl) rfl
theorem q1488 : (Jvm.Cond.fieldLink "GrowingDoorModel" (198 : Nat) "GrowingDoorModel" "refusedSteps" "I") ∈ lw_all := lw_g (lw_at lw_m6 203 rfl) rfl
theorem q1489 : (Jvm.Cond.fieldLink "GrowingDoorModel" (318 : Nat) "GrowingDoorModel" "begun" "I") ∈ lw_all := lw_g (lw_at lw_m6 204 rfl) rfl
theorem q1490 : (Jvm.Cond.fieldLink "GrowingDoorModel" (321 : Nat) "GrowingDoorModel" "done" "I") ∈ lw_all := lw_g (lw_at lw_m6 205 rfl) rfl
theorem q1491 : (Jvm.Cond.fieldLink "GrowingDoorModel" (324 : Nat) "GrowingDoorModel" "refusedNow" "I") ∈ lw_all := lw_g (lw_at lw_m6 206 rfl) rfl
theorem q1492 : (Jvm.Cond.fieldLink "GrowingDoorModel" (71 : Nat) "GrowingDoorModel" "now" "[I") ∈ lw_all := lw_g (lw_at lw_m6 207 rfl) rfl
theorem q1493 : (Jvm.Cond.fieldLink "GrowingDoorModel" (74 : Nat) "GrowingDoorModel" "s" "[I") ∈ lw_all := lw_g (lw_at lw_m6 208 rfl) rfl
theorem q1494 : (Jvm.Cond.fieldLink "GrowingDoorModel" (77 : Nat) "GrowingDoorModel" "past" "[I") ∈ lw_all := lw_g (lw_at lw_m6 209 rfl) rfl
theorem q1495 : (Jvm.Cond.fieldLink "GrowingDoorModel" (80 : Nat) "GrowingDoorModel" "more" "[I") ∈ lw_all := lw_g (lw_at lw_m6 210 rfl) rfl
theorem q1496 : (Jvm.Cond.fieldLink "GrowingDoorModel" (83 : Nat) "GrowingDoorModel" "rainAll" "I") ∈ lw_all := lw_g (lw_at lw_m6 211 rfl) rfl
theorem q1497 : (Jvm.Cond.fieldLink "GrowingDoorModel" (86 : Nat) "GrowingDoorModel" "newBook" "[I") ∈ lw_all := lw_g (lw_at lw_m6 212 rfl) rfl
theorem q1498 : (Jvm.Cond.fieldLink "GrowingDoorModel" (89 : Nat) "GrowingDoorModel" "book" "[I") ∈ lw_all := lw_g (lw_at lw_m6 213 rfl) rfl
theorem q1499 : (Jvm.Cond.fieldLink "GrowingDoorModel" (189 : Nat) "GrowingDoorModel" "books" "I") ∈ lw_all := lw_g (lw_at lw_m6 214 rfl) rfl
theorem q1500 : (Jvm.Cond.fieldLink "GrowingDoorModel" (92 : Nat) "GrowingDoorModel" "apartOf" "[I") ∈ lw_all := lw_g (lw_at lw_m6 215 rfl) rfl
theorem q1501 : (Jvm.Cond.fieldLink "GrowingDoorModel" (95 : Nat) "GrowingDoorModel" "mateOf" "[I") ∈ lw_all := lw_g (lw_at lw_m6 216 rfl) rfl
theorem q1502 : (Jvm.Cond.fieldLink "GrowingDoorModel" (98 : Nat) "GrowingDoorModel" "rungsOf" "[I") ∈ lw_all := lw_g (lw_at lw_m6 217 rfl) rfl
theorem q1503 : (Jvm.Cond.fieldLink "GrowingDoorModel" (101 : Nat) "GrowingDoorModel" "highAt" "[I") ∈ lw_all := lw_g (lw_at lw_m6 218 rfl) rfl
theorem q1504 : (Jvm.Cond.fieldLink "GrowingDoorModel" (104 : Nat) "GrowingDoorModel" "isPair" "[Z") ∈ lw_all := lw_g (lw_at lw_m6 219 rfl) rfl
theorem q1505 : (Jvm.Cond.fieldLink "GrowingDoorModel" (108 : Nat) "GrowingDoorModel" "leftBy" "[I") ∈ lw_all := lw_g (lw_at lw_m6 220 rfl) rfl
theorem q1506 : (Jvm.Cond.fieldLink "GrowingDoorModel" (111 : Nat) "GrowingDoorModel" "streak" "[J") ∈ lw_all := lw_g (lw_at lw_m6 221 rfl) rfl
theorem q1507 : (Jvm.Cond.fieldLink "GrowingDoorModel" (432 : Nat) "GrowingDoorModel" "seedNow" "I") ∈ lw_all := lw_g (lw_at lw_m6 222 rfl) rfl
theorem q1508 : (Jvm.Cond.fieldLink "GrowingDoorModel" (436 : Nat) "GrowingDoorModel" "cutMany" "I") ∈ lw_all := lw_g (lw_at lw_m6 223 rfl) rfl
theorem q1509 : (Jvm.Cond.fieldLink "GrowingDoorModel" (115 : Nat) "GrowingDoorModel" "image" "[I") ∈ lw_all := lw_g (lw_at lw_m6 224 rfl) rfl
theorem q1510 : (Jvm.Cond.fieldLink "GrowingDoorModel" (195 : Nat) "GrowingDoorModel" "images" "I") ∈ lw_all := lw_g (lw_at lw_m6 225 rfl) rfl
theorem q1511 : (Jvm.Cond.lays "GrowingDoorModel" "GrowingDoorModel" "thrown" "I") ∈ lw_all := lw_g (lw_at lw_m6 226 rfl) rfl
theorem q1512 : (Jvm.Cond.soleField "GrowingDoorModel" "thrown") ∈ lw_all := lw_g (lw_at lw_m6 227 rfl) rfl
theorem q1513 : (Jvm.Cond.laysFinal "GrowingDoorModel" "GrowingDoorModel" "refused" "[I") ∈ lw_all := lw_g (lw_at lw_m6 228 rfl) rfl
theorem q1514 : (Jvm.Cond.soleField "GrowingDoorModel" "refused") ∈ lw_all := lw_g (lw_at lw_m6 229 rfl) rfl
theorem q1515 : (Jvm.Cond.lays "GrowingDoorModel" "GrowingDoorModel" "taped" "I") ∈ lw_all := lw_g (lw_at lw_m6 230 rfl) rfl
theorem q1516 : (Jvm.Cond.soleField "GrowingDoorModel" "taped") ∈ lw_all := lw_g (lw_at lw_m6 231 rfl) rfl
theorem q1517 : (Jvm.Cond.lays "GrowingDoorModel" "GrowingDoorModel" "size" "I") ∈ lw_all := lw_g (lw_at lw_m6 232 rfl) rfl
theorem q1518 : (Jvm.Cond.soleField "GrowingDoorModel" "size") ∈ lw_all := lw_g (lw_at lw_m6 233 rfl) rfl
theorem q1519 : (Jvm.Cond.lays "GrowingDoorModel" "GrowingDoorModel" "at" "I") ∈ lw_all := lw_g (lw_at lw_m6 234 rfl) rfl
theorem q1520 : (Jvm.Cond.soleField "GrowingDoorModel" "at") ∈ lw_all := lw_g (lw_at lw_m6 235 rfl) rfl
theorem q1521 : (Jvm.Cond.lays "GrowingDoorModel" "GrowingDoorModel" "bad" "I") ∈ lw_all := lw_g (lw_at lw_m6 236 rfl) rfl
theorem q1522 : (Jvm.Cond.soleField "GrowingDoorModel" "bad") ∈ lw_all := lw_g (lw_at lw_m6 237 rfl) rfl
theorem q1523 : (Jvm.Cond.lays "GrowingDoorModel" "GrowingDoorModel" "badKind" "I") ∈ lw_all := lw_g (lw_at lw_m6 238 rfl) rfl
theorem q1524 : (Jvm.Cond.soleField "GrowingDoorModel" "badKind") ∈ lw_all := lw_g (lw_at lw_m6 239 rfl) rfl
theorem q1525 : (Jvm.Cond.lays "GrowingDoorModel" "GrowingDoorModel" "opens" "I") ∈ lw_all := lw_g (lw_at lw_m7 0 rfl) rfl
theorem q1526 : (Jvm.Cond.soleField "GrowingDoorModel" "opens") ∈ lw_all := lw_g (lw_at lw_m7 1 rfl) rfl
theorem q1527 : (Jvm.Cond.lays "GrowingDoorModel" "GrowingDoorModel" "faultAt" "I") ∈ lw_all := lw_g (lw_at lw_m7 2 rfl) rfl
theorem q1528 : (Jvm.Cond.soleField "GrowingDoorModel" "faultAt") ∈ lw_all := lw_g (lw_at lw_m7 3 rfl) rfl
theorem q1529 : (Jvm.Cond.laysFinal "GrowingDoorModel" "GrowingDoorModel" "tape" "[I") ∈ lw_all := lw_g (lw_at lw_m7 4 rfl) rfl
theorem q1530 : (Jvm.Cond.soleField "GrowingDoorModel" "tape") ∈ lw_all := lw_g (lw_at lw_m7 5 rfl) rfl
theorem q1531 : (Jvm.Cond.laysFinal "GrowingDoorModel" "GrowingDoorModel" "newBoard" "[I") ∈ lw_all := lw_g (lw_at lw_m7 6 rfl) rfl
theorem q1532 : (Jvm.Cond.soleField "GrowingDoorModel" "newBoard") ∈ lw_all := lw_g (lw_at lw_m7 7 rfl) rfl
theorem q1533 : (Jvm.Cond.laysFinal "GrowingDoorModel" "GrowingDoorModel" "newBoy" "[I") ∈ lw_all := lw_g (lw_at lw_m7 8 rfl) rfl
theorem q1534 : (Jvm.Cond.soleField "GrowingDoorModel" "newBoy") ∈ lw_all := lw_g (lw_at lw_m7 9 rfl) rfl
theorem q1535 : (Jvm.Cond.laysFinal "GrowingDoorModel" "GrowingDoorModel" "newKin" "[I") ∈ lw_all := lw_g (lw_at lw_m7 10 rfl) rfl
theorem q1536 : (Jvm.Cond.soleField "GrowingDoorModel" "newKin") ∈ lw_all := lw_g (lw_at lw_m7 11 rfl) rfl
theorem q1537 : (Jvm.Cond.laysFinal "GrowingDoorModel" "GrowingDoorModel" "newRain" "[I") ∈ lw_all := lw_g (lw_at lw_m7 12 rfl) rfl
theorem q1538 : (Jvm.Cond.soleField "GrowingDoorModel" "newRain") ∈ lw_all := lw_g (lw_at lw_m7 13 rfl) rfl
theorem q1539 : (Jvm.Cond.laysFinal "GrowingDoorModel" "GrowingDoorModel" "board" "[I") ∈ lw_all := lw_g (lw_at lw_m7 14 rfl) rfl
theorem q1540 : (Jvm.Cond.soleField "GrowingDoorModel" "board") ∈ lw_all := lw_g (lw_at lw_m7 15 rfl) rfl
theorem q1541 : (Jvm.Cond.laysFinal "GrowingDoorModel" "GrowingDoorModel" "boy" "[I") ∈ lw_all := lw_g (lw_at lw_m7 16 rfl) rfl
theorem q1542 : (Jvm.Cond.soleField "GrowingDoorModel" "boy") ∈ lw_all := lw_g (lw_at lw_m7 17 rfl) rfl
theorem q1543 : (Jvm.Cond.laysFinal "GrowingDoorModel" "GrowingDoorModel" "kin" "[I") ∈ lw_all := lw_g (lw_at lw_m7 18 rfl) rfl
theorem q1544 : (Jvm.Cond.soleField "GrowingDoorModel" "kin") ∈ lw_all := lw_g (lw_at lw_m7 19 rfl) rfl
theorem q1545 : (Jvm.Cond.laysFinal "GrowingDoorModel" "GrowingDoorModel" "rain" "[I") ∈ lw_all := lw_g (lw_at lw_m7 20 rfl) rfl
theorem q1546 : (Jvm.Cond.soleField "GrowingDoorModel" "rain") ∈ lw_all := lw_g (lw_at lw_m7 21 rfl) rfl
theorem q1547 : (Jvm.Cond.lays "GrowingDoorModel" "GrowingDoorModel" "newBoards" "I") ∈ lw_all := lw_g (lw_at lw_m7 22 rfl) rfl
theorem q1548 : (Jvm.Cond.soleField "GrowingDoorModel" "newBoards") ∈ lw_all := lw_g (lw_at lw_m7 23 rfl) rfl
theorem q1549 : (Jvm.Cond.lays "GrowingDoorModel" "GrowingDoorModel" "newBoys" "I") ∈ lw_all := lw_g (lw_at lw_m7 24 rfl) rfl
theorem q1550 : (Jvm.Cond.soleField "GrowingDoorModel" "newBoys") ∈ lw_all := lw_g (lw_at lw_m7 25 rfl) rfl
theorem q1551 : (Jvm.Cond.lays "GrowingDoorModel" "GrowingDoorModel" "boards" "I") ∈ lw_all := lw_g (lw_at lw_m7 26 rfl) rfl
theorem q1552 : (Jvm.Cond.soleField "GrowingDoorModel" "boards") ∈ lw_all := lw_g (lw_at lw_m7 27 rfl) rfl
theorem q1553 : (Jvm.Cond.lays "GrowingDoorModel" "GrowingDoorModel" "boys" "I") ∈ lw_all := lw_g (lw_at lw_m7 28 rfl) rfl
theorem q1554 : (Jvm.Cond.soleField "GrowingDoorModel" "boys") ∈ lw_all := lw_g (lw_at lw_m7 29 rfl) rfl
theorem q1555 : (Jvm.Cond.laysFinal "GrowingDoorModel" "GrowingDoorModel" "newCode" "[I") ∈ lw_all := lw_g (lw_at lw_m7 30 rfl) rfl
theorem q1556 : (Jvm.Cond.soleField "GrowingDoorModel" "newCode") ∈ lw_all := lw_g (lw_at lw_m7 31 rfl) rfl
theorem q1557 : (Jvm.Cond.laysFinal "GrowingDoorModel" "GrowingDoorModel" "newOf" "[I") ∈ lw_all := lw_g (lw_at lw_m7 32 rfl) rfl
theorem q1558 : (Jvm.Cond.soleField "GrowingDoorModel" "newOf") ∈ lw_all := lw_g (lw_at lw_m7 33 rfl) rfl
theorem q1559 : (Jvm.Cond.laysFinal "GrowingDoorModel" "GrowingDoorModel" "code" "[I") ∈ lw_all := lw_g (lw_at lw_m7 34 rfl) rfl
theorem q1560 : (Jvm.Cond.soleField "GrowingDoorModel" "code") ∈ lw_all := lw_g (lw_at lw_m7 35 rfl) rfl
theorem q1561 : (Jvm.Cond.laysFinal "GrowingDoorModel" "GrowingDoorModel" "ofCode" "[I") ∈ lw_all := lw_g (lw_at lw_m7 36 rfl) rfl
theorem q1562 : (Jvm.Cond.soleField "GrowingDoorModel" "ofCode") ∈ lw_all := lw_g (lw_at lw_m7 37 rfl) rfl
theorem q1563 : (Jvm.Cond.laysFinal "GrowingDoorModel" "GrowingDoorModel" "stack" "[I") ∈ lw_all := lw_g (lw_at lw_m7 38 rfl) rfl
theorem q1564 : (Jvm.Cond.soleField "GrowingDoorModel" "stack") ∈ lw_all := lw_g (lw_at lw_m7 39 rfl) rfl
theorem q1565 : (Jvm.Cond.lays "GrowingDoorModel" "GrowingDoorModel" "newCodes" "I") ∈ lw_all := lw_g (lw_at lw_m7 40 rfl) rfl
theorem q1566 : (Jvm.Cond.soleField "GrowingDoorModel" "newCodes") ∈ lw_all := lw_g (lw_at lw_m7 41 rfl) rfl
theorem q1567 : (Jvm.Cond.lays "GrowingDoorModel" "GrowingDoorModel" "codes" "I") ∈ lw_all := lw_g (lw_at lw_m7 42 rfl) rfl
theorem q1568 : (Jvm.Cond.soleField "GrowingDoorModel" "codes") ∈ lw_all := lw_g (lw_at lw_m7 43 rfl) rfl
theorem q1569 : (Jvm.Cond.laysFinal "GrowingDoorModel" "GrowingDoorModel" "facts" "[I") ∈ lw_all := lw_g (lw_at lw_m7 44 rfl) rfl
theorem q1570 : (Jvm.Cond.soleField "GrowingDoorModel" "facts") ∈ lw_all := lw_g (lw_at lw_m7 45 rfl) rfl
theorem q1571 : (Jvm.Cond.laysFinal "GrowingDoorModel" "GrowingDoorModel" "newStep" "[I") ∈ lw_all := lw_g (lw_at lw_m7 46 rfl) rfl
theorem q1572 : (Jvm.Cond.soleField "GrowingDoorModel" "newStep") ∈ lw_all := lw_g (lw_at lw_m7 47 rfl) rfl
theorem q1573 : (Jvm.Cond.laysFinal "GrowingDoorModel" "GrowingDoorModel" "step" "[I") ∈ lw_all := lw_g (lw_at lw_m7 48 rfl) rfl
theorem q1574 : (Jvm.Cond.soleField "GrowingDoorModel" "step") ∈ lw_all := lw_g (lw_at lw_m7 49 rfl) rfl
theorem q1575 : (Jvm.Cond.lays "GrowingDoorModel" "GrowingDoorModel" "newSteps" "I") ∈ lw_all := lw_g (lw_at lw_m7 50 rfl) rfl
theorem q1576 : (Jvm.Cond.soleField "GrowingDoorModel" "newSteps") ∈ lw_all := lw_g (lw_at lw_m7 51 rfl) rfl
theorem q1577 : (Jvm.Cond.lays "GrowingDoorModel" "GrowingDoorModel" "works" "I") ∈ lw_all := lw_g (lw_at lw_m7 52 rfl) rfl
theorem q1578 : (Jvm.Cond.soleField "GrowingDoorModel" "works") ∈ lw_all := lw_g (lw_at lw_m7 53 rfl) rfl
theorem q1579 : (Jvm.Cond.lays "GrowingDoorModel" "GrowingDoorModel" "refusedSteps" "I") ∈ lw_all := lw_g (lw_at lw_m7 54 rfl) rfl
theorem q1580 : (Jvm.Cond.soleField "GrowingDoorModel" "refusedSteps") ∈ lw_all := lw_g (lw_at lw_m7 55 rfl) rfl
theorem q1581 : (Jvm.Cond.lays "GrowingDoorModel" "GrowingDoorModel" "begun" "I") ∈ lw_all := lw_g (lw_at lw_m7 56 rfl) rfl
theorem q1582 : (Jvm.Cond.soleField "GrowingDoorModel" "begun") ∈ lw_all := lw_g (lw_at lw_m7 57 rfl) rfl
theorem q1583 : (Jvm.Cond.lays "GrowingDoorModel" "GrowingDoorModel" "done" "I") ∈ lw_all := lw_g (lw_at lw_m7 58 rfl) rfl
theorem q1584 : (Jvm.Cond.soleField "GrowingDoorModel" "done") ∈ lw_all := lw_g (lw_at lw_m7 59 rfl) rfl
theorem q1585 : (Jvm.Cond.lays "GrowingDoorModel" "GrowingDoorModel" "refusedNow" "I") ∈ lw_all := lw_g (lw_at lw_m7 60 rfl) rfl
theorem q1586 : (Jvm.Cond.soleField "GrowingDoorModel" "refusedNow") ∈ lw_all := lw_g (lw_at lw_m7 61 rfl) rfl
theorem q1587 : (Jvm.Cond.laysFinal "GrowingDoorModel" "GrowingDoorModel" "now" "[I") ∈ lw_all := lw_g (lw_at lw_m7 62 rfl) rfl
theorem q1588 : (Jvm.Cond.soleField "GrowingDoorModel" "now") ∈ lw_all := lw_g (lw_at lw_m7 63 rfl) rfl
theorem q1589 : (Jvm.Cond.laysFinal "GrowingDoorModel" "GrowingDoorModel" "s" "[I") ∈ lw_all := lw_g (lw_at lw_m7 64 rfl) rfl
theorem q1590 : (Jvm.Cond.soleField "GrowingDoorModel" "s") ∈ lw_all := lw_g (lw_at lw_m7 65 rfl) rfl
theorem q1591 : (Jvm.Cond.laysFinal "GrowingDoorModel" "GrowingDoorModel" "past" "[I") ∈ lw_all := lw_g (lw_at lw_m7 66 rfl) rfl
theorem q1592 : (Jvm.Cond.soleField "GrowingDoorModel" "past") ∈ lw_all := lw_g (lw_at lw_m7 67 rfl) rfl
theorem q1593 : (Jvm.Cond.laysFinal "GrowingDoorModel" "GrowingDoorModel" "more" "[I") ∈ lw_all := lw_g (lw_at lw_m7 68 rfl) rfl
theorem q1594 : (Jvm.Cond.soleField "GrowingDoorModel" "more") ∈ lw_all := lw_g (lw_at lw_m7 69 rfl) rfl
theorem q1595 : (Jvm.Cond.lays "GrowingDoorModel" "GrowingDoorModel" "rainAll" "I") ∈ lw_all := lw_g (lw_at lw_m7 70 rfl) rfl
theorem q1596 : (Jvm.Cond.soleField "GrowingDoorModel" "rainAll") ∈ lw_all := lw_g (lw_at lw_m7 71 rfl) rfl
theorem q1597 : (Jvm.Cond.laysFinal "GrowingDoorModel" "GrowingDoorModel" "newBook" "[I") ∈ lw_all := lw_g (lw_at lw_m7 72 rfl) rfl
theorem q1598 : (Jvm.Cond.soleField "GrowingDoorModel" "newBook") ∈ lw_all := lw_g (lw_at lw_m7 73 rfl) rfl
theorem q1599 : (Jvm.Cond.laysFinal "GrowingDoorModel" "GrowingDoorModel" "book" "[I") ∈ lw_all := lw_g (lw_at lw_m7 74 rfl) rfl
theorem q1600 : (Jvm.Cond.soleField "GrowingDoorModel" "book") ∈ lw_all := lw_g (lw_at lw_m7 75 rfl) rfl
theorem q1601 : (Jvm.Cond.lays "GrowingDoorModel" "GrowingDoorModel" "books" "I") ∈ lw_all := lw_g (lw_at lw_m7 76 rfl) rfl
theorem q1602 : (Jvm.Cond.soleField "GrowingDoorModel" "books") ∈ lw_all := lw_g (lw_at lw_m7 77 rfl) rfl
theorem q1603 : (Jvm.Cond.laysFinal "GrowingDoorModel" "GrowingDoorModel" "apartOf" "[I") ∈ lw_all := lw_g (lw_at lw_m7 78 rfl) rfl
theorem q1604 : (Jvm.Cond.soleField "GrowingDoorModel" "apartOf") ∈ lw_all := lw_g (lw_at lw_m7 79 rfl) rfl
theorem q1605 : (Jvm.Cond.laysFinal "GrowingDoorModel" "GrowingDoorModel" "mateOf" "[I") ∈ lw_all := lw_g (lw_at lw_m7 80 rfl) rfl
theorem q1606 : (Jvm.Cond.soleField "GrowingDoorModel" "mateOf") ∈ lw_all := lw_g (lw_at lw_m7 81 rfl) rfl
theorem q1607 : (Jvm.Cond.laysFinal "GrowingDoorModel" "GrowingDoorModel" "rungsOf" "[I") ∈ lw_all := lw_g (lw_at lw_m7 82 rfl) rfl
theorem q1608 : (Jvm.Cond.soleField "GrowingDoorModel" "rungsOf") ∈ lw_all := lw_g (lw_at lw_m7 83 rfl) rfl
theorem q1609 : (Jvm.Cond.laysFinal "GrowingDoorModel" "GrowingDoorModel" "highAt" "[I") ∈ lw_all := lw_g (lw_at lw_m7 84 rfl) rfl
theorem q1610 : (Jvm.Cond.soleField "GrowingDoorModel" "highAt") ∈ lw_all := lw_g (lw_at lw_m7 85 rfl) rfl
theorem q1611 : (Jvm.Cond.laysFinal "GrowingDoorModel" "GrowingDoorModel" "isPair" "[Z") ∈ lw_all := lw_g (lw_at lw_m7 86 rfl) rfl
theorem q1612 : (Jvm.Cond.soleField "GrowingDoorModel" "isPair") ∈ lw_all := lw_g (lw_at lw_m7 87 rfl) rfl
theorem q1613 : (Jvm.Cond.laysFinal "GrowingDoorModel" "GrowingDoorModel" "leftBy" "[I") ∈ lw_all := lw_g (lw_at lw_m7 88 rfl) rfl
theorem q1614 : (Jvm.Cond.soleField "GrowingDoorModel" "leftBy") ∈ lw_all := lw_g (lw_at lw_m7 89 rfl) rfl
theorem q1615 : (Jvm.Cond.laysFinal "GrowingDoorModel" "GrowingDoorModel" "streak" "[J") ∈ lw_all := lw_g (lw_at lw_m7 90 rfl) rfl
theorem q1616 : (Jvm.Cond.soleField "GrowingDoorModel" "streak") ∈ lw_all := lw_g (lw_at lw_m7 91 rfl) rfl
theorem q1617 : (Jvm.Cond.lays "GrowingDoorModel" "GrowingDoorModel" "seedNow" "I") ∈ lw_all := lw_g (lw_at lw_m7 92 rfl) rfl
theorem q1618 : (Jvm.Cond.soleField "GrowingDoorModel" "seedNow") ∈ lw_all := lw_g (lw_at lw_m7 93 rfl) rfl
theorem q1619 : (Jvm.Cond.lays "GrowingDoorModel" "GrowingDoorModel" "cutMany" "I") ∈ lw_all := lw_g (lw_at lw_m7 94 rfl) rfl
theorem q1620 : (Jvm.Cond.soleField "GrowingDoorModel" "cutMany") ∈ lw_all := lw_g (lw_at lw_m7 95 rfl) rfl
theorem q1621 : (Jvm.Cond.laysFinal "GrowingDoorModel" "GrowingDoorModel" "image" "[I") ∈ lw_all := lw_g (lw_at lw_m7 96 rfl) rfl
theorem q1622 : (Jvm.Cond.soleField "GrowingDoorModel" "image") ∈ lw_all := lw_g (lw_at lw_m7 97 rfl) rfl
theorem q1623 : (Jvm.Cond.lays "GrowingDoorModel" "GrowingDoorModel" "images" "I") ∈ lw_all := lw_g (lw_at lw_m7 98 rfl) rfl
theorem q1624 : (Jvm.Cond.soleField "GrowingDoorModel" "images") ∈ lw_all := lw_g (lw_at lw_m7 99 rfl) rfl
theorem q1625 : (Jvm.Cond.superclass "GrowingDoorModel" "java/lang/Object") ∈ lw_all := lw_g (lw_at lw_m7 100 rfl) rfl
theorem q1628 : (Jvm.Cond.instanceMethod ({ cls := "GrowingDoorModel", name := "feed", desc := "(IIIII)I" } : Jvm.MethodName)) ∈ lw_all := lw_g (lw_at lw_m7 103 rfl) rfl
theorem q1629 : (Jvm.Cond.selects "GrowingDoorModel" ({ cls := "GrowingDoorModel", name := "feed", desc := "(IIIII)I" } : Jvm.MethodName) ({ cls := "GrowingDoorModel", name := "feed", desc := "(IIIII)I" } : Jvm.MethodName)) ∈ lw_all := lw_g (lw_at lw_m7 104 rfl) rfl
theorem q1630 : (Jvm.Cond.code ({ cls := "GrowingDoorModel", name := "feed", desc := "(IIIII)I" } : Jvm.MethodName) prog_24_method_5_code (8 : Nat) (Option.some Jvm.ClassFile.FieldType.int)) ∈ lw_all := lw_g (lw_at lw_m7 105 rfl) rfl
theorem q1632 : (Jvm.Cond.instanceMethod ({ cls := "GrowingDoorModel", name := "fault", desc := "()I" } : Jvm.MethodName)) ∈ lw_all := lw_g (lw_at lw_m7 107 rfl) rfl
theorem q1633 : (Jvm.Cond.selects "GrowingDoorModel" ({ cls := "GrowingDoorModel", name := "fault", desc := "()I" } : Jvm.MethodName) ({ cls := "GrowingDoorModel", name := "fault", desc := "()I" } : Jvm.MethodName)) ∈ lw_all := lw_g (lw_at lw_m7 108 rfl) rfl
theorem q1634 : (Jvm.Cond.code ({ cls := "GrowingDoorModel", name := "fault", desc := "()I" } : Jvm.MethodName) prog_24_method_19_code (1 : Nat) (Option.some Jvm.ClassFile.FieldType.int)) ∈ lw_all := lw_g (lw_at lw_m7 109 rfl) rfl
theorem q1636 : (Jvm.Cond.instanceMethod ({ cls := "GrowingDoorModel", name := "school", desc := "(I)I" } : Jvm.MethodName)) ∈ lw_all := lw_g (lw_at lw_m7 111 rfl) rfl
theorem q1637 : (Jvm.Cond.selects "GrowingDoorModel" ({ cls := "GrowingDoorModel", name := "school", desc := "(I)I" } : Jvm.MethodName) ({ cls := "GrowingDoorModel", name := "school", desc := "(I)I" } : Jvm.MethodName)) ∈ lw_all := lw_g (lw_at lw_m7 112 rfl) rfl
theorem q1638 : (Jvm.Cond.code ({ cls := "GrowingDoorModel", name := "school", desc := "(I)I" } : Jvm.MethodName) prog_24_method_26_code (4 : Nat) (Option.some Jvm.ClassFile.FieldType.int)) ∈ lw_all := lw_g (lw_at lw_m7 113 rfl) rfl
theorem q1639 : (Jvm.Cond.methodLink "GrowingDoorModel" (216 : Nat) ({ cls := "GrowingDoorModel", name := "may", desc := "(ZII)Z" } : Jvm.MethodName)) ∈ lw_all := lw_g (lw_at lw_m7 114 rfl) rfl
theorem q1640 : (Jvm.Cond.privateMethod ({ cls := "GrowingDoorModel", name := "may", desc := "(ZII)Z" } : Jvm.MethodName)) ∈ lw_tbl := lw_at lw_m7 115 rfl
theorem q1641 : (Jvm.Cond.instanceMethod ({ cls := "GrowingDoorModel", name := "may", desc := "(ZII)Z" } : Jvm.MethodName)) ∈ lw_all := lw_g (lw_at lw_m7 116 rfl) rfl
theorem q1642 : (Jvm.Cond.code ({ cls := "GrowingDoorModel", name := "may", desc := "(ZII)Z" } : Jvm.MethodName) prog_24_method_2_code (4 : Nat) (Option.some Jvm.ClassFile.FieldType.boolean)) ∈ lw_all := lw_g (lw_at lw_m7 117 rfl) rfl
theorem q1643 : (Jvm.Cond.methodLink "GrowingDoorModel" (220 : Nat) ({ cls := "GrowingDoorModel", name := "begins", desc := "(I)V" } : Jvm.MethodName)) ∈ lw_all := lw_g (lw_at lw_m7 118 rfl) rfl
theorem q1644 : (Jvm.Cond.privateMethod ({ cls := "GrowingDoorModel", name := "begins", desc := "(I)V" } : Jvm.MethodName)) ∈ lw_tbl := lw_at lw_m7 119 rfl
theorem q1645 : (Jvm.Cond.instanceMethod ({ cls := "GrowingDoorModel", name := "begins", desc := "(I)V" } : Jvm.MethodName)) ∈ lw_all := lw_g (lw_at lw_m7 120 rfl) rfl
theorem q1646 : (Jvm.Cond.code ({ cls := "GrowingDoorModel", name := "begins", desc := "(I)V" } : Jvm.MethodName) prog_24_method_17_code (2 : Nat) (Option.none : Option Jvm.ClassFile.FieldType)) ∈ lw_all := lw_g (lw_at lw_m7 121 rfl) rfl
theorem q1647 : (Jvm.Cond.methodLink "GrowingDoorModel" (156 : Nat) ({ cls := "GrowingDoorModel", name := "fine", desc := "()Z" } : Jvm.MethodName)) ∈ lw_all := lw_g (lw_at lw_m7 122 rfl) rfl
theorem q1648 : (Jvm.Cond.privateMethod ({ cls := "GrowingDoorModel", name := "fine", desc := "()Z" } : Jvm.MethodName)) ∈ lw_tbl := lw_at lw_m7 123 rfl
theorem q1649 : (Jvm.Cond.instanceMethod ({ cls := "GrowingDoorModel", name := "fine", desc := "()Z" } : Jvm.MethodName)) ∈ lw_all := lw_g (lw_at lw_m7 124 rfl) rfl
theorem q1650 : (Jvm.Cond.code ({ cls := "GrowingDoorModel", name := "fine", desc := "()Z" } : Jvm.MethodName) prog_24_method_6_code (1 : Nat) (Option.some Jvm.ClassFile.FieldType.boolean)) ∈ lw_all := lw_g (lw_at lw_m7 125 rfl) rfl
theorem q1651 : (Jvm.Cond.methodLink "GrowingDoorModel" (224 : Nat) ({ cls := "GrowingDoorModel", name := "isMore", desc := "()Z" } : Jvm.MethodName)) ∈ lw_all := lw_g (lw_at lw_m7 126 rfl) rfl
theorem q1652 : (Jvm.Cond.privateMethod ({ cls := "GrowingDoorModel", name := "isMore", desc := "()Z" } : Jvm.MethodName)) ∈ lw_tbl := lw_at lw_m7 127 rfl
theorem q1653 : (Jvm.Cond.instanceMethod ({ cls := "GrowingDoorModel", name := "isMore", desc := "()Z" } : Jvm.MethodName)) ∈ lw_all := lw_g (lw_at lw_m7 128 rfl) rfl
theorem q1654 : (Jvm.Cond.code ({ cls := "GrowingDoorModel", name := "isMore", desc := "()Z" } : Jvm.MethodName) prog_24_method_16_code (1 : Nat) (Option.some Jvm.ClassFile.FieldType.boolean)) ∈ lw_all := lw_g (lw_at lw_m7 129 rfl) rfl
theorem q1655 : (Jvm.Cond.methodLink "GrowingDoorModel" (139 : Nat) ({ cls := "GrowingDoorModel", name := "here", desc := "()I" } : Jvm.MethodName)) ∈ lw_all := lw_g (lw_at lw_m7 130 rfl) rfl
theorem q1656 : (Jvm.Cond.privateMethod ({ cls := "GrowingDoorModel", name := "here", desc := "()I" } : Jvm.MethodName)) ∈ lw_tbl := lw_at lw_m7 131 rfl
theorem q1657 : (Jvm.Cond.instanceMethod ({ cls := "GrowingDoorModel", name := "here", desc := "()I" } : Jvm.MethodName)) ∈ lw_all := lw_g (lw_at lw_m7 132 rfl) rfl
theorem q1658 : (Jvm.Cond.code ({ cls := "GrowingDoorModel", name := "here", desc := "()I" } : Jvm.MethodName) prog_24_method_8_code (1 : Nat) (Option.some Jvm.ClassFile.FieldType.int)) ∈ lw_all := lw_g (lw_at lw_m7 133 rfl) rfl
theorem q1659 : (Jvm.Cond.methodLink "GrowingDoorModel" (227 : Nat) ({ cls := "GrowingDoorModel", name := "word", desc := "()I" } : Jvm.MethodName)) ∈ lw_all := lw_g (lw_at lw_m7 134 rfl) rfl
theorem q1660 : (Jvm.Cond.privateMethod ({ cls := "GrowingDoorModel", name := "word", desc := "()I" } : Jvm.MethodName)) ∈ lw_tbl := lw_at lw_m7 135 rfl
theorem q1661 : (Jvm.Cond.instanceMethod ({ cls := "GrowingDoorModel", name := "word", desc := "()I" } : Jvm.MethodName)) ∈ lw_all := lw_g (lw_at lw_m7 136 rfl) rfl
theorem q1662 : (Jvm.Cond.code ({ cls := "GrowingDoorModel", name := "word", desc := "()I" } : Jvm.MethodName) prog_24_method_11_code (4 : Nat) (Option.some Jvm.ClassFile.FieldType.int)) ∈ lw_all := lw_g (lw_at lw_m7 137 rfl) rfl
theorem q1663 : (Jvm.Cond.methodLink "GrowingDoorModel" (143 : Nat) ({ cls := "GrowingDoorModel", name := "isSmall", desc := "(I)Z" } : Jvm.MethodName)) ∈ lw_all := lw_g (lw_at lw_m7 138 rfl) rfl
theorem q1664 : (Jvm.Cond.static ({ cls := "GrowingDoorModel", name := "isSmall", desc := "(I)Z" } : Jvm.MethodName)) ∈ lw_all := lw_g (lw_at lw_m7 139 rfl) rfl
theorem q1665 : (Jvm.Cond.code ({ cls := "GrowingDoorModel", name := "isSmall", desc := "(I)Z" } : Jvm.MethodName) prog_24_method_9_code (1 : Nat) (Option.some Jvm.ClassFile.FieldType.boolean)) ∈ lw_all := lw_g (lw_at lw_m7 140 rfl) rfl
theorem q1666 : (Jvm.Cond.methodLink "GrowingDoorModel" (230 : Nat) ({ cls := "GrowingDoorModel", name := "isRow", desc := "(I)Z" } : Jvm.MethodName)) ∈ lw_all := lw_g (lw_at lw_m7 141 rfl) rfl
theorem q1667 : (Jvm.Cond.static ({ cls := "GrowingDoorModel", name := "isRow", desc := "(I)Z" } : Jvm.MethodName)) ∈ lw_all := lw_g (lw_at lw_m7 142 rfl) rfl
theorem q1668 : (Jvm.Cond.code ({ cls := "GrowingDoorModel", name := "isRow", desc := "(I)Z" } : Jvm.MethodName) prog_24_method_24_code (1 : Nat) (Option.some Jvm.ClassFile.FieldType.boolean)) ∈ lw_all := lw_g (lw_at lw_m7 143 rfl) rfl
theorem q1669 : (Jvm.Cond.stringRef "GrowingDoorModel" (205 : Nat) "board") ∈ lw_tbl := lw_at lw_m7 144 rfl
theorem q1670 : (Jvm.Cond.methodLink "GrowingDoorModel" (206 : Nat) ({ cls := "GrowingDoorModel", name := "of", desc := "(Ljava/lang/String;)I" } : Jvm.MethodName)) ∈ lw_all := lw_g (lw_at lw_m7 145 rfl) rfl
theorem q1671 : (Jvm.Cond.static ({ cls := "GrowingDoorModel", name := "of", desc := "(Ljava/lang/String;)I" } : Jvm.MethodName)) ∈ lw_all := lw_g (lw_at lw_m7 146 rfl) rfl
theorem q1672 : (Jvm.Cond.code ({ cls := "GrowingDoorModel", name := "of", desc := "(Ljava/lang/String;)I" } : Jvm.MethodName) prog_24_method_12_code (3 : Nat) (Option.some Jvm.ClassFile.FieldType.int)) ∈ lw_all := lw_g (lw_at lw_m7 147 rfl) rfl
theorem q1673 : (Jvm.Cond.methodLink "GrowingDoorModel" (147 : Nat) ({ cls := "java/lang/String", name := "length", desc := "()I" } : Jvm.MethodName)) ∈ lw_all := lw_g (lw_at lw_m7 148 rfl) rfl
theorem q1674 : (Jvm.Cond.methodLink "GrowingDoorModel" (152 : Nat) ({ cls := "java/lang/String", name := "charAt", desc := "(I)C" } : Jvm.MethodName)) ∈ lw_all := lw_g (lw_at lw_m7 149 rfl) rfl
theorem q1675 : (Jvm.Cond.stringRef "GrowingDoorModel" (210 : Nat) "boy") ∈ lw_tbl := lw_at lw_m7 150 rfl
theorem q1676 : (Jvm.Cond.stringRef "GrowingDoorModel" (211 : Nat) "kin") ∈ lw_tbl := lw_at lw_m7 151 rfl
theorem q1677 : (Jvm.Cond.stringRef "GrowingDoorModel" (212 : Nat) "rain") ∈ lw_tbl := lw_at lw_m7 152 rfl
theorem q1678 : (Jvm.Cond.methodLink "GrowingDoorModel" (163 : Nat) ({ cls := "GrowingDoorModel", name := "wrong", desc := "(II)V" } : Jvm.MethodName)) ∈ lw_all := lw_g (lw_at lw_m7 153 rfl) rfl
theorem q1679 : (Jvm.Cond.privateMethod ({ cls := "GrowingDoorModel", name := "wrong", desc := "(II)V" } : Jvm.MethodName)) ∈ lw_tbl := lw_at lw_m7 154 rfl
theorem q1680 : (Jvm.Cond.instanceMethod ({ cls := "GrowingDoorModel", name := "wrong", desc := "(II)V" } : Jvm.MethodName)) ∈ lw_all := lw_g (lw_at lw_m7 155 rfl) rfl
theorem q1681 : (Jvm.Cond.code ({ cls := "GrowingDoorModel", name := "wrong", desc := "(II)V" } : Jvm.MethodName) prog_24_method_7_code (3 : Nat) (Option.none : Option Jvm.ClassFile.FieldType)) ∈ lw_all := lw_g (lw_at lw_m7 156 rfl) rfl
theorem q1682 : (Jvm.Cond.methodLink "GrowingDoorModel" (233 : Nat) ({ cls := "GrowingDoorModel", name := "pass", desc := "()V" } : Jvm.MethodName)) ∈ lw_all := lw_g (lw_at lw_m7 157 rfl) rfl
theorem q1683 : (Jvm.Cond.privateMethod ({ cls := "GrowingDoorModel", name := "pass", desc := "()V" } : Jvm.MethodName)) ∈ lw_tbl := lw_at lw_m7 158 rfl
theorem q1684 : (Jvm.Cond.instanceMethod ({ cls := "GrowingDoorModel", name := "pass", desc := "()V" } : Jvm.MethodName)) ∈ lw_all := lw_g (lw_at lw_m7 159 rfl) rfl
theorem q1685 : (Jvm.Cond.code ({ cls := "GrowingDoorModel", name := "pass", desc := "()V" } : Jvm.MethodName) prog_24_method_13_code (1 : Nat) (Option.none : Option Jvm.ClassFile.FieldType)) ∈ lw_all := lw_g (lw_at lw_m7 160 rfl) rfl
theorem q1686 : (Jvm.Cond.methodLink "GrowingDoorModel" (236 : Nat) ({ cls := "GrowingDoorModel", name := "readRow", desc := "(I)V" } : Jvm.MethodName)) ∈ lw_all := lw_g (lw_at lw_m7 161 rfl) rfl
theorem q1687 : (Jvm.Cond.privateMethod ({ cls := "GrowingDoorModel", name := "readRow", desc := "(I)V" } : Jvm.MethodName)) ∈ lw_tbl := lw_at lw_m7 162 rfl
theorem q1688 : (Jvm.Cond.instanceMethod ({ cls := "GrowingDoorModel", name := "readRow", desc := "(I)V" } : Jvm.MethodName)) ∈ lw_all := lw_g (lw_at lw_m7 163 rfl) rfl
theorem q1689 : (Jvm.Cond.code ({ cls := "GrowingDoorModel", name := "readRow", desc := "(I)V" } : Jvm.MethodName) prog_24_method_25_code (4 : Nat) (Option.none : Option Jvm.ClassFile.FieldType)) ∈ lw_all := lw_g (lw_at lw_m7 164 rfl) rfl
theorem q1690 : (Jvm.Cond.methodLink "GrowingDoorModel" (201 : Nat) ({ cls := "GrowingDoorModel", name := "readNumber", desc := "(II)I" } : Jvm.MethodName)) ∈ lw_all := lw_g (lw_at lw_m7 165 rfl) rfl
theorem q1691 : (Jvm.Cond.privateMethod ({ cls := "GrowingDoorModel", name := "readNumber", desc := "(II)I" } : Jvm.MethodName)) ∈ lw_tbl := lw_at lw_m7 166 rfl
theorem q1692 : (Jvm.Cond.instanceMethod ({ cls := "GrowingDoorModel", name := "readNumber", desc := "(II)I" } : Jvm.MethodName)) ∈ lw_all := lw_g (lw_at lw_m7 167 rfl) rfl
theorem q1693 : (Jvm.Cond.code ({ cls := "GrowingDoorModel", name := "readNumber", desc := "(II)I" } : Jvm.MethodName) prog_24_method_14_code (6 : Nat) (Option.some Jvm.ClassFile.FieldType.int)) ∈ lw_all := lw_g (lw_at lw_m7 168 rfl) rfl
theorem q1694 : (Jvm.Cond.methodLink "GrowingDoorModel" (160 : Nat) ({ cls := "GrowingDoorModel", name := "isDigit", desc := "(I)Z" } : Jvm.MethodName)) ∈ lw_all := lw_g (lw_at lw_m7 169 rfl) rfl
theorem q1695 : (Jvm.Cond.static ({ cls := "GrowingDoorModel", name := "isDigit", desc := "(I)Z" } : Jvm.MethodName)) ∈ lw_all := lw_g (lw_at lw_m7 170 rfl) rfl
theorem q1696 : (Jvm.Cond.code ({ cls := "GrowingDoorModel", name := "isDigit", desc := "(I)Z" } : Jvm.MethodName) prog_24_method_10_code (1 : Nat) (Option.some Jvm.ClassFile.FieldType.boolean)) ∈ lw_all := lw_g (lw_at lw_m7 171 rfl) rfl
theorem q1697 : (Jvm.Cond.methodLink "GrowingDoorModel" (213 : Nat) ({ cls := "GrowingDoorModel", name := "readKin", desc := "()V" } : Jvm.MethodName)) ∈ lw_all := lw_g (lw_at lw_m7 172 rfl) rfl
theorem q1698 : (Jvm.Cond.privateMethod ({ cls := "GrowingDoorModel", name := "readKin", desc := "()V" } : Jvm.MethodName)) ∈ lw_tbl := lw_at lw_m7 173 rfl
theorem q1699 : (Jvm.Cond.instanceMethod ({ cls := "GrowingDoorModel", name := "readKin", desc := "()V" } : Jvm.MethodName)) ∈ lw_all := lw_g (lw_at lw_m7 174 rfl) rfl
theorem q1700 : (Jvm.Cond.code ({ cls := "GrowingDoorModel", name := "readKin", desc := "()V" } : Jvm.MethodName) prog_24_method_23_code (4 : Nat) (Option.none : Option Jvm.ClassFile.FieldType)) ∈ lw_all := lw_g (lw_at lw_m7 175 rfl) rfl
theorem q1701 : (Jvm.Cond.methodLink "GrowingDoorModel" (239 : Nat) ({ cls := "GrowingDoorModel", name := "sign", desc := "(I)V" } : Jvm.MethodName)) ∈ lw_all := lw_g (lw_at lw_m7 176 rfl) rfl
theorem q1702 : (Jvm.Cond.privateMethod ({ cls := "GrowingDoorModel", name := "sign", desc := "(I)V" } : Jvm.MethodName)) ∈ lw_tbl := lw_at lw_m7 177 rfl
theorem q1703 : (Jvm.Cond.instanceMethod ({ cls := "GrowingDoorModel", name := "sign", desc := "(I)V" } : Jvm.MethodName)) ∈ lw_all := lw_g (lw_at lw_m7 178 rfl) rfl
theorem q1704 : (Jvm.Cond.code ({ cls := "GrowingDoorModel", name := "sign", desc := "(I)V" } : Jvm.MethodName) prog_24_method_15_code (2 : Nat) (Option.none : Option Jvm.ClassFile.FieldType)) ∈ lw_all := lw_g (lw_at lw_m7 179 rfl) rfl
theorem q1705 : (Jvm.Cond.methodLink "GrowingDoorModel" (242 : Nat) ({ cls := "GrowingDoorModel", name := "result", desc := "(I)I" } : Jvm.MethodName)) ∈ lw_all := lw_g (lw_at lw_m7 180 rfl) rfl
theorem q1706 : (Jvm.Cond.privateMethod ({ cls := "GrowingDoorModel", name := "result", desc := "(I)I" } : Jvm.MethodName)) ∈ lw_tbl := lw_at lw_m7 181 rfl
theorem q1707 : (Jvm.Cond.instanceMethod ({ cls := "GrowingDoorModel", name := "result", desc := "(I)I" } : Jvm.MethodName)) ∈ lw_all := lw_g (lw_at lw_m7 182 rfl) rfl
theorem q1708 : (Jvm.Cond.code ({ cls := "GrowingDoorModel", name := "result", desc := "(I)I" } : Jvm.MethodName) prog_24_method_18_code (2 : Nat) (Option.some Jvm.ClassFile.FieldType.int)) ∈ lw_all := lw_g (lw_at lw_m7 183 rfl) rfl
theorem q1710 : (Jvm.Cond.instanceMethod ({ cls := "GrowingDoorModel", name := "law", desc := "(I)I" } : Jvm.MethodName)) ∈ lw_all := lw_g (lw_at lw_m7 185 rfl) rfl
theorem q1711 : (Jvm.Cond.selects "GrowingDoorModel" ({ cls := "GrowingDoorModel", name := "law", desc := "(I)I" } : Jvm.MethodName) ({ cls := "GrowingDoorModel", name := "law", desc := "(I)I" } : Jvm.MethodName)) ∈ lw_all := lw_g (lw_at lw_m7 186 rfl) rfl
theorem q1712 : (Jvm.Cond.code ({ cls := "GrowingDoorModel", name := "law", desc := "(I)I" } : Jvm.MethodName) prog_24_method_34_code (3 : Nat) (Option.some Jvm.ClassFile.FieldType.int)) ∈ lw_all := lw_g (lw_at lw_m7 187 rfl) rfl
theorem q1713 : (Jvm.Cond.methodLink "GrowingDoorModel" (261 : Nat) ({ cls := "GrowingDoorModel", name := "readSum", desc := "()V" } : Jvm.MethodName)) ∈ lw_all := lw_g (lw_at lw_m7 188 rfl) rfl
theorem q1714 : (Jvm.Cond.privateMethod ({ cls := "GrowingDoorModel", name := "readSum", desc := "()V" } : Jvm.MethodName)) ∈ lw_tbl := lw_at lw_m7 189 rfl
theorem q1715 : (Jvm.Cond.instanceMethod ({ cls := "GrowingDoorModel", name := "readSum", desc := "()V" } : Jvm.MethodName)) ∈ lw_all := lw_g (lw_at lw_m7 190 rfl) rfl
theorem q1716 : (Jvm.Cond.code ({ cls := "GrowingDoorModel", name := "readSum", desc := "()V" } : Jvm.MethodName) prog_24_method_29_code (2 : Nat) (Option.none : Option Jvm.ClassFile.FieldType)) ∈ lw_all := lw_g (lw_at lw_m7 191 rfl) rfl
theorem q1717 : (Jvm.Cond.methodLink "GrowingDoorModel" (249 : Nat) ({ cls := "GrowingDoorModel", name := "readProduct", desc := "()V" } : Jvm.MethodName)) ∈ lw_all := lw_g (lw_at lw_m7 192 rfl) rfl
theorem q1718 : (Jvm.Cond.privateMethod ({ cls := "GrowingDoorModel", name := "readProduct", desc := "()V" } : Jvm.MethodName)) ∈ lw_tbl := lw_at lw_m7 193 rfl
theorem q1719 : (Jvm.Cond.instanceMethod ({ cls := "GrowingDoorModel", name := "readProduct", desc := "()V" } : Jvm.MethodName)) ∈ lw_all := lw_g (lw_at lw_m7 194 rfl) rfl
theorem q1720 : (Jvm.Cond.code ({ cls := "GrowingDoorModel", name := "readProduct", desc := "()V" } : Jvm.MethodName) prog_24_method_30_code (2 : Nat) (Option.none : Option Jvm.ClassFile.FieldType)) ∈ lw_all := lw_g (lw_at lw_m7 195 rfl) rfl
theorem q1721 : (Jvm.Cond.methodLink "GrowingDoorModel" (255 : Nat) ({ cls := "GrowingDoorModel", name := "readUnit", desc := "()V" } : Jvm.MethodName)) ∈ lw_all := lw_g (lw_at lw_m7 196 rfl) rfl
theorem q1722 : (Jvm.Cond.privateMethod ({ cls := "GrowingDoorModel", name := "readUnit", desc := "()V" } : Jvm.MethodName)) ∈ lw_tbl := lw_at lw_m7 197 rfl
theorem q1723 : (Jvm.Cond.instanceMethod ({ cls := "GrowingDoorModel", name := "readUnit", desc := "()V" } : Jvm.MethodName)) ∈ lw_all := lw_g (lw_at lw_m7 198 rfl) rfl
theorem q1724 : (Jvm.Cond.code ({ cls := "GrowingDoorModel", name := "readUnit", desc := "()V" } : Jvm.MethodName) prog_24_method_33_code (2 : Nat) (Option.none : Option Jvm.ClassFile.FieldType)) ∈ lw_all := lw_g (lw_at lw_m7 199 rfl) rfl
theorem q1725 : (Jvm.Cond.methodLink "GrowingDoorModel" (258 : Nat) ({ cls := "GrowingDoorModel", name := "opensOne", desc := "(I)V" } : Jvm.MethodName)) ∈ lw_all := lw_g (lw_at lw_m7 200 rfl) rfl
theorem q1726 : (Jvm.Cond.privateMethod ({ cls := "GrowingDoorModel", name := "opensOne", desc := "(I)V" } : Jvm.MethodName)) ∈ lw_tbl := lw_at lw_m7 201 rfl
theorem q1727 : (Jvm.Cond.instanceMethod ({ cls := "GrowingDoorModel", name := "opensOne", desc := "(I)V" } : Jvm.MethodName)) ∈ lw_all := lw_g (lw_at lw_m7 202 rfl) rfl
theorem q1728 : (Jvm.Cond.code ({ cls := "GrowingDoorModel", name := "opensOne", desc := "(I)V" } : Jvm.MethodName) prog_24_method_28_code (2 : Nat) (Option.none : Option Jvm.ClassFile.FieldType)) ∈ lw_all := lw_g (lw_at lw_m7 203 rfl) rfl
theorem q1729 : (Jvm.Cond.methodLink "GrowingDoorModel" (252 : Nat) ({ cls := "GrowingDoorModel", name := "emit", desc := "(II)V" } : Jvm.MethodName)) ∈ lw_all := lw_g (lw_at lw_m7 204 rfl) rfl
theorem q1730 : (Jvm.Cond.privateMethod ({ cls := "GrowingDoorModel", name := "emit", desc := "(II)V" } : Jvm.MethodName)) ∈ lw_tbl := lw_at lw_m7 205 rfl
theorem q1731 : (Jvm.Cond.instanceMethod ({ cls := "GrowingDoorModel", name := "emit", desc := "(II)V" } : Jvm.MethodName)) ∈ lw_all := lw_g (lw_at lw_m7 206 rfl) rfl
theorem q1732 : (Jvm.Cond.code ({ cls := "GrowingDoorModel", name := "emit", desc := "(II)V" } : Jvm.MethodName) prog_24_method_27_code (3 : Nat) (Option.none : Option Jvm.ClassFile.FieldType)) ∈ lw_all := lw_g (lw_at lw_m7 207 rfl) rfl
theorem q1733 : (Jvm.Cond.stringRef "GrowingDoorModel" (274 : Nat) "least") ∈ lw_tbl := lw_at lw_m7 208 rfl
theorem q1734 : (Jvm.Cond.methodLink "GrowingDoorModel" (276 : Nat) ({ cls := "GrowingDoorModel", name := "readTwo", desc := "(II)V" } : Jvm.MethodName)) ∈ lw_all := lw_g (lw_at lw_m7 209 rfl) rfl
theorem q1735 : (Jvm.Cond.privateMethod ({ cls := "GrowingDoorModel", name := "readTwo", desc := "(II)V" } : Jvm.MethodName)) ∈ lw_tbl := lw_at lw_m7 210 rfl
theorem q1736 : (Jvm.Cond.instanceMethod ({ cls := "GrowingDoorModel", name := "readTwo", desc := "(II)V" } : Jvm.MethodName)) ∈ lw_all := lw_g (lw_at lw_m7 211 rfl) rfl
theorem q1737 : (Jvm.Cond.code ({ cls := "GrowingDoorModel", name := "readTwo", desc := "(II)V" } : Jvm.MethodName) prog_24_method_31_code (3 : Nat) (Option.none : Option Jvm.ClassFile.FieldType)) ∈ lw_all := lw_g (lw_at lw_m7 212 rfl) rfl
theorem q1738 : (Jvm.Cond.stringRef "GrowingDoorModel" (279 : Nat) "most") ∈ lw_tbl := lw_at lw_m7 213 rfl
theorem q1739 : (Jvm.Cond.methodLink "GrowingDoorModel" (281 : Nat) ({ cls := "GrowingDoorModel", name := "factHere", desc := "()I" } : Jvm.MethodName)) ∈ lw_all := lw_g (lw_at lw_m7 214 rfl) rfl
theorem q1740 : (Jvm.Cond.privateMethod ({ cls := "GrowingDoorModel", name := "factHere", desc := "()I" } : Jvm.MethodName)) ∈ lw_tbl := lw_at lw_m7 215 rfl
theorem q1741 : (Jvm.Cond.instanceMethod ({ cls := "GrowingDoorModel", name := "factHere", desc := "()I" } : Jvm.MethodName)) ∈ lw_all := lw_g (lw_at lw_m7 216 rfl) rfl
theorem q1742 : (Jvm.Cond.code ({ cls := "GrowingDoorModel", name := "factHere", desc := "()I" } : Jvm.MethodName) prog_24_method_32_code (2 : Nat) (Option.some Jvm.ClassFile.FieldType.int)) ∈ lw_all := lw_g (lw_at lw_m7 217 rfl) rfl
theorem q1743 : (Jvm.Cond.stringRef "GrowingDoorModel" (264 : Nat) "food") ∈ lw_tbl := lw_at lw_m7 218 rfl
theorem q1744 : (Jvm.Cond.stringRef "GrowingDoorModel" (266 : Nat) "high") ∈ lw_tbl := lw_at lw_m7 219 rfl
theorem q1745 : (Jvm.Cond.stringRef "GrowingDoorModel" (268 : Nat) "gain") ∈ lw_tbl := lw_at lw_m7 220 rfl
theorem q1746 : (Jvm.Cond.stringRef "GrowingDoorModel" (270 : Nat) "month") ∈ lw_tbl := lw_at lw_m7 221 rfl
theorem q1747 : (Jvm.Cond.stringRef "GrowingDoorModel" (272 : Nat) "door") ∈ lw_tbl := lw_at lw_m7 222 rfl
theorem q1749 : (Jvm.Cond.instanceMethod ({ cls := "GrowingDoorModel", name := "work", desc := "(I)I" } : Jvm.MethodName)) ∈ lw_all := lw_g (lw_at lw_m7 224 rfl) rfl
theorem q1750 : (Jvm.Cond.selects "GrowingDoorModel" ({ cls := "GrowingDoorModel", name := "work", desc := "(I)I" } : Jvm.MethodName) ({ cls := "GrowingDoorModel", name := "work", desc := "(I)I" } : Jvm.MethodName)) ∈ lw_all := lw_g (lw_at lw_m7 225 rfl) rfl
theorem q1751 : (Jvm.Cond.code ({ cls := "GrowingDoorModel", name := "work", desc := "(I)I" } : Jvm.MethodName) prog_24_method_40_code (4 : Nat) (Option.some Jvm.ClassFile.FieldType.int)) ∈ lw_all := lw_g (lw_at lw_m7 226 rfl) rfl
theorem q1752 : (Jvm.Cond.methodLink "GrowingDoorModel" (312 : Nat) ({ cls := "GrowingDoorModel", name := "readStep", desc := "()V" } : Jvm.MethodName)) ∈ lw_all := lw_g (lw_at lw_m7 227 rfl) rfl
theorem q1753 : (Jvm.Cond.privateMethod ({ cls := "GrowingDoorModel", name := "readStep", desc := "()V" } : Jvm.MethodName)) ∈ lw_tbl := lw_at lw_m7 228 rfl
theorem q1754 : (Jvm.Cond.instanceMethod ({ cls := "GrowingDoorModel", name := "readStep", desc := "()V" } : Jvm.MethodName)) ∈ lw_all := lw_g (lw_at lw_m7 229 rfl) rfl
theorem q1755 : (Jvm.Cond.code ({ cls := "GrowingDoorModel", name := "readStep", desc := "()V" } : Jvm.MethodName) prog_24_method_39_code (4 : Nat) (Option.none : Option Jvm.ClassFile.FieldType)) ∈ lw_all := lw_g (lw_at lw_m7 230 rfl) rfl
theorem q1756 : (Jvm.Cond.methodLink "GrowingDoorModel" (294 : Nat) ({ cls := "GrowingDoorModel", name := "tellsStep", desc := "(III)V" } : Jvm.MethodName)) ∈ lw_all := lw_g (lw_at lw_m7 231 rfl) rfl
theorem q1757 : (Jvm.Cond.privateMethod ({ cls := "GrowingDoorModel", name := "tellsStep", desc := "(III)V" } : Jvm.MethodName)) ∈ lw_tbl := lw_at lw_m7 232 rfl
theorem q1758 : (Jvm.Cond.instanceMethod ({ cls := "GrowingDoorModel", name := "tellsStep", desc := "(III)V" } : Jvm.MethodName)) ∈ lw_all := lw_g (lw_at lw_m7 233 rfl) rfl
theorem q1759 : (Jvm.Cond.code ({ cls := "GrowingDoorModel", name := "tellsStep", desc := "(III)V" } : Jvm.MethodName) prog_24_method_38_code (4 : Nat) (Option.none : Option Jvm.ClassFile.FieldType)) ∈ lw_all := lw_g (lw_at lw_m7 234 rfl) rfl
theorem q1760 : (Jvm.Cond.stringRef "GrowingDoorModel" (298 : Nat) "notch") ∈ lw_tbl := lw_at lw_m7 235 rfl
theorem q1761 : (Jvm.Cond.stringRef "GrowingDoorModel" (300 : Nat) "leave") ∈ lw_tbl := lw_at lw_m7 236 rfl
theorem q1762 : (Jvm.Cond.stringRef "GrowingDoorModel" (302 : Nat) "back") ∈ lw_tbl := lw_at lw_m7 237 rfl
theorem q1763 : (Jvm.Cond.stringRef "GrowingDoorModel" (304 : Nat) "feed") ∈ lw_tbl := lw_at lw_m7 238 rfl
theorem q1764 : (Jvm.Cond.stringRef "GrowingDoorModel" (306 : Nat) "oil") ∈ lw_tbl := lw_at lw_m7 239 rfl
theorem q1765 : (Jvm.Cond.stringRef "GrowingDoorModel" (308 : Nat) "plane") ∈ lw_tbl := lw_at lw_m8 0 rfl
theorem q1766 : (Jvm.Cond.stringRef "GrowingDoorModel" (310 : Nat) "again") ∈ lw_tbl := lw_at lw_m8 1 rfl
theorem q1767 : (Jvm.Cond.methodLink "GrowingDoorModel" (315 : Nat) ({ cls := "GrowingDoorModel", name := "take", desc := "()V" } : Jvm.MethodName)) ∈ lw_all := lw_g (lw_at lw_m8 2 rfl) rfl
theorem q1768 : (Jvm.Cond.privateMethod ({ cls := "GrowingDoorModel", name := "take", desc := "()V" } : Jvm.MethodName)) ∈ lw_tbl := lw_at lw_m8 3 rfl
theorem q1769 : (Jvm.Cond.instanceMethod ({ cls := "GrowingDoorModel", name := "take", desc := "()V" } : Jvm.MethodName)) ∈ lw_all := lw_g (lw_at lw_m8 4 rfl) rfl
theorem q1770 : (Jvm.Cond.code ({ cls := "GrowingDoorModel", name := "take", desc := "()V" } : Jvm.MethodName) prog_24_method_42_code (1 : Nat) (Option.none : Option Jvm.ClassFile.FieldType)) ∈ lw_all := lw_g (lw_at lw_m8 5 rfl) rfl
theorem q1771 : (Jvm.Cond.methodLink "GrowingDoorModel" (327 : Nat) ({ cls := "GrowingDoorModel", name := "goesSteps", desc := "(II)V" } : Jvm.MethodName)) ∈ lw_all := lw_g (lw_at lw_m8 6 rfl) rfl
theorem q1772 : (Jvm.Cond.privateMethod ({ cls := "GrowingDoorModel", name := "goesSteps", desc := "(II)V" } : Jvm.MethodName)) ∈ lw_tbl := lw_at lw_m8 7 rfl
theorem q1773 : (Jvm.Cond.instanceMethod ({ cls := "GrowingDoorModel", name := "goesSteps", desc := "(II)V" } : Jvm.MethodName)) ∈ lw_all := lw_g (lw_at lw_m8 8 rfl) rfl
theorem q1774 : (Jvm.Cond.code ({ cls := "GrowingDoorModel", name := "goesSteps", desc := "(II)V" } : Jvm.MethodName) prog_24_method_41_code (6 : Nat) (Option.none : Option Jvm.ClassFile.FieldType)) ∈ lw_all := lw_g (lw_at lw_m8 9 rfl) rfl
theorem q1775 : (Jvm.Cond.methodLink "GrowingDoorModel" (330 : Nat) ({ cls := "GrowingDoorModel", name := "isDone", desc := "(III)Z" } : Jvm.MethodName)) ∈ lw_all := lw_g (lw_at lw_m8 10 rfl) rfl
theorem q1776 : (Jvm.Cond.privateMethod ({ cls := "GrowingDoorModel", name := "isDone", desc := "(III)Z" } : Jvm.MethodName)) ∈ lw_tbl := lw_at lw_m8 11 rfl
theorem q1777 : (Jvm.Cond.instanceMethod ({ cls := "GrowingDoorModel", name := "isDone", desc := "(III)Z" } : Jvm.MethodName)) ∈ lw_all := lw_g (lw_at lw_m8 12 rfl) rfl
theorem q1778 : (Jvm.Cond.code ({ cls := "GrowingDoorModel", name := "isDone", desc := "(III)Z" } : Jvm.MethodName) prog_24_method_56_code (4 : Nat) (Option.some Jvm.ClassFile.FieldType.boolean)) ∈ lw_all := lw_g (lw_at lw_m8 13 rfl) rfl
theorem q1779 : (Jvm.Cond.methodLink "GrowingDoorModel" (365 : Nat) ({ cls := "GrowingDoorModel", name := "cuts", desc := "(I)Z" } : Jvm.MethodName)) ∈ lw_all := lw_g (lw_at lw_m8 14 rfl) rfl
theorem q1780 : (Jvm.Cond.privateMethod ({ cls := "GrowingDoorModel", name := "cuts", desc := "(I)Z" } : Jvm.MethodName)) ∈ lw_tbl := lw_at lw_m8 15 rfl
theorem q1781 : (Jvm.Cond.instanceMethod ({ cls := "GrowingDoorModel", name := "cuts", desc := "(I)Z" } : Jvm.MethodName)) ∈ lw_all := lw_g (lw_at lw_m8 16 rfl) rfl
theorem q1782 : (Jvm.Cond.code ({ cls := "GrowingDoorModel", name := "cuts", desc := "(I)Z" } : Jvm.MethodName) prog_24_method_53_code (3 : Nat) (Option.some Jvm.ClassFile.FieldType.boolean)) ∈ lw_all := lw_g (lw_at lw_m8 17 rfl) rfl
theorem q1783 : (Jvm.Cond.methodLink "GrowingDoorModel" (362 : Nat) ({ cls := "GrowingDoorModel", name := "boardAt", desc := "(I)I" } : Jvm.MethodName)) ∈ lw_all := lw_g (lw_at lw_m8 18 rfl) rfl
theorem q1784 : (Jvm.Cond.privateMethod ({ cls := "GrowingDoorModel", name := "boardAt", desc := "(I)I" } : Jvm.MethodName)) ∈ lw_tbl := lw_at lw_m8 19 rfl
theorem q1785 : (Jvm.Cond.instanceMethod ({ cls := "GrowingDoorModel", name := "boardAt", desc := "(I)I" } : Jvm.MethodName)) ∈ lw_all := lw_g (lw_at lw_m8 20 rfl) rfl
theorem q1786 : (Jvm.Cond.code ({ cls := "GrowingDoorModel", name := "boardAt", desc := "(I)I" } : Jvm.MethodName) prog_24_method_47_code (3 : Nat) (Option.some Jvm.ClassFile.FieldType.int)) ∈ lw_all := lw_g (lw_at lw_m8 21 rfl) rfl
theorem q1787 : (Jvm.Cond.methodLink "GrowingDoorModel" (334 : Nat) ({ cls := "GrowingDoorModel", name := "below", desc := "(I)I" } : Jvm.MethodName)) ∈ lw_all := lw_g (lw_at lw_m8 22 rfl) rfl
theorem q1788 : (Jvm.Cond.privateMethod ({ cls := "GrowingDoorModel", name := "below", desc := "(I)I" } : Jvm.MethodName)) ∈ lw_tbl := lw_at lw_m8 23 rfl
theorem q1789 : (Jvm.Cond.instanceMethod ({ cls := "GrowingDoorModel", name := "below", desc := "(I)I" } : Jvm.MethodName)) ∈ lw_all := lw_g (lw_at lw_m8 24 rfl) rfl
theorem q1790 : (Jvm.Cond.code ({ cls := "GrowingDoorModel", name := "below", desc := "(I)I" } : Jvm.MethodName) prog_24_method_44_code (4 : Nat) (Option.some Jvm.ClassFile.FieldType.int)) ∈ lw_all := lw_g (lw_at lw_m8 25 rfl) rfl
theorem q1791 : (Jvm.Cond.methodLink "GrowingDoorModel" (368 : Nat) ({ cls := "GrowingDoorModel", name := "becomes", desc := "(II)Z" } : Jvm.MethodName)) ∈ lw_all := lw_g (lw_at lw_m8 26 rfl) rfl
theorem q1792 : (Jvm.Cond.privateMethod ({ cls := "GrowingDoorModel", name := "becomes", desc := "(II)Z" } : Jvm.MethodName)) ∈ lw_tbl := lw_at lw_m8 27 rfl
theorem q1793 : (Jvm.Cond.instanceMethod ({ cls := "GrowingDoorModel", name := "becomes", desc := "(II)Z" } : Jvm.MethodName)) ∈ lw_all := lw_g (lw_at lw_m8 28 rfl) rfl
theorem q1794 : (Jvm.Cond.code ({ cls := "GrowingDoorModel", name := "becomes", desc := "(II)Z" } : Jvm.MethodName) prog_24_method_55_code (3 : Nat) (Option.some Jvm.ClassFile.FieldType.boolean)) ∈ lw_all := lw_g (lw_at lw_m8 29 rfl) rfl
theorem q1795 : (Jvm.Cond.methodLink "GrowingDoorModel" (372 : Nat) ({ cls := "GrowingDoorModel", name := "planed", desc := "(II)Z" } : Jvm.MethodName)) ∈ lw_all := lw_g (lw_at lw_m8 30 rfl) rfl
theorem q1796 : (Jvm.Cond.privateMethod ({ cls := "GrowingDoorModel", name := "planed", desc := "(II)Z" } : Jvm.MethodName)) ∈ lw_tbl := lw_at lw_m8 31 rfl
theorem q1797 : (Jvm.Cond.instanceMethod ({ cls := "GrowingDoorModel", name := "planed", desc := "(II)Z" } : Jvm.MethodName)) ∈ lw_all := lw_g (lw_at lw_m8 32 rfl) rfl
theorem q1798 : (Jvm.Cond.code ({ cls := "GrowingDoorModel", name := "planed", desc := "(II)Z" } : Jvm.MethodName) prog_24_method_54_code (4 : Nat) (Option.some Jvm.ClassFile.FieldType.boolean)) ∈ lw_all := lw_g (lw_at lw_m8 33 rfl) rfl
theorem q1799 : (Jvm.Cond.methodLink "GrowingDoorModel" (375 : Nat) ({ cls := "GrowingDoorModel", name := "goesOn", desc := "()V" } : Jvm.MethodName)) ∈ lw_all := lw_g (lw_at lw_m8 34 rfl) rfl
theorem q1800 : (Jvm.Cond.privateMethod ({ cls := "GrowingDoorModel", name := "goesOn", desc := "()V" } : Jvm.MethodName)) ∈ lw_tbl := lw_at lw_m8 35 rfl
theorem q1801 : (Jvm.Cond.instanceMethod ({ cls := "GrowingDoorModel", name := "goesOn", desc := "()V" } : Jvm.MethodName)) ∈ lw_all := lw_g (lw_at lw_m8 36 rfl) rfl
theorem q1802 : (Jvm.Cond.code ({ cls := "GrowingDoorModel", name := "goesOn", desc := "()V" } : Jvm.MethodName) prog_24_method_52_code (2 : Nat) (Option.none : Option Jvm.ClassFile.FieldType)) ∈ lw_all := lw_g (lw_at lw_m8 37 rfl) rfl
theorem q1803 : (Jvm.Cond.methodLink "GrowingDoorModel" (353 : Nat) ({ cls := "GrowingDoorModel", name := "growsBy", desc := "(I)I" } : Jvm.MethodName)) ∈ lw_all := lw_g (lw_at lw_m8 38 rfl) rfl
theorem q1804 : (Jvm.Cond.privateMethod ({ cls := "GrowingDoorModel", name := "growsBy", desc := "(I)I" } : Jvm.MethodName)) ∈ lw_tbl := lw_at lw_m8 39 rfl
theorem q1805 : (Jvm.Cond.instanceMethod ({ cls := "GrowingDoorModel", name := "growsBy", desc := "(I)I" } : Jvm.MethodName)) ∈ lw_all := lw_g (lw_at lw_m8 40 rfl) rfl
theorem q1806 : (Jvm.Cond.code ({ cls := "GrowingDoorModel", name := "growsBy", desc := "(I)I" } : Jvm.MethodName) prog_24_method_49_code (4 : Nat) (Option.some Jvm.ClassFile.FieldType.int)) ∈ lw_all := lw_g (lw_at lw_m8 41 rfl) rfl
theorem q1807 : (Jvm.Cond.methodLink "GrowingDoorModel" (343 : Nat) ({ cls := "GrowingDoorModel", name := "rainNow", desc := "()I" } : Jvm.MethodName)) ∈ lw_all := lw_g (lw_at lw_m8 42 rfl) rfl
theorem q1808 : (Jvm.Cond.privateMethod ({ cls := "GrowingDoorModel", name := "rainNow", desc := "()I" } : Jvm.MethodName)) ∈ lw_tbl := lw_at lw_m8 43 rfl
theorem q1809 : (Jvm.Cond.instanceMethod ({ cls := "GrowingDoorModel", name := "rainNow", desc := "()I" } : Jvm.MethodName)) ∈ lw_all := lw_g (lw_at lw_m8 44 rfl) rfl
theorem q1810 : (Jvm.Cond.code ({ cls := "GrowingDoorModel", name := "rainNow", desc := "()I" } : Jvm.MethodName) prog_24_method_43_code (1 : Nat) (Option.some Jvm.ClassFile.FieldType.int)) ∈ lw_all := lw_g (lw_at lw_m8 45 rfl) rfl
theorem q1811 : (Jvm.Cond.methodLink "GrowingDoorModel" (346 : Nat) ({ cls := "GrowingDoorModel", name := "gainOf", desc := "(I)I" } : Jvm.MethodName)) ∈ lw_all := lw_g (lw_at lw_m8 46 rfl) rfl
theorem q1812 : (Jvm.Cond.privateMethod ({ cls := "GrowingDoorModel", name := "gainOf", desc := "(I)I" } : Jvm.MethodName)) ∈ lw_tbl := lw_at lw_m8 47 rfl
theorem q1813 : (Jvm.Cond.instanceMethod ({ cls := "GrowingDoorModel", name := "gainOf", desc := "(I)I" } : Jvm.MethodName)) ∈ lw_all := lw_g (lw_at lw_m8 48 rfl) rfl
theorem q1814 : (Jvm.Cond.code ({ cls := "GrowingDoorModel", name := "gainOf", desc := "(I)I" } : Jvm.MethodName) prog_24_method_46_code (2 : Nat) (Option.some Jvm.ClassFile.FieldType.int)) ∈ lw_all := lw_g (lw_at lw_m8 49 rfl) rfl
theorem q1815 : (Jvm.Cond.methodLink "GrowingDoorModel" (337 : Nat) ({ cls := "GrowingDoorModel", name := "isAt", desc := "(I)I" } : Jvm.MethodName)) ∈ lw_all := lw_g (lw_at lw_m8 50 rfl) rfl
theorem q1816 : (Jvm.Cond.privateMethod ({ cls := "GrowingDoorModel", name := "isAt", desc := "(I)I" } : Jvm.MethodName)) ∈ lw_tbl := lw_at lw_m8 51 rfl
theorem q1817 : (Jvm.Cond.instanceMethod ({ cls := "GrowingDoorModel", name := "isAt", desc := "(I)I" } : Jvm.MethodName)) ∈ lw_all := lw_g (lw_at lw_m8 52 rfl) rfl
theorem q1818 : (Jvm.Cond.code ({ cls := "GrowingDoorModel", name := "isAt", desc := "(I)I" } : Jvm.MethodName) prog_24_method_45_code (2 : Nat) (Option.some Jvm.ClassFile.FieldType.int)) ∈ lw_all := lw_g (lw_at lw_m8 53 rfl) rfl
theorem q1819 : (Jvm.Cond.methodLink "GrowingDoorModel" (349 : Nat) ({ cls := "GrowingDoorModel", name := "growsOf", desc := "(IIIIIIII)I" } : Jvm.MethodName)) ∈ lw_all := lw_g (lw_at lw_m8 54 rfl) rfl
theorem q1820 : (Jvm.Cond.privateMethod ({ cls := "GrowingDoorModel", name := "growsOf", desc := "(IIIIIIII)I" } : Jvm.MethodName)) ∈ lw_tbl := lw_at lw_m8 55 rfl
theorem q1821 : (Jvm.Cond.instanceMethod ({ cls := "GrowingDoorModel", name := "growsOf", desc := "(IIIIIIII)I" } : Jvm.MethodName)) ∈ lw_all := lw_g (lw_at lw_m8 56 rfl) rfl
theorem q1822 : (Jvm.Cond.code ({ cls := "GrowingDoorModel", name := "growsOf", desc := "(IIIIIIII)I" } : Jvm.MethodName) prog_24_method_48_code (9 : Nat) (Option.some Jvm.ClassFile.FieldType.int)) ∈ lw_all := lw_g (lw_at lw_m8 57 rfl) rfl
theorem q1823 : (Jvm.Cond.methodLink "GrowingDoorModel" (340 : Nat) ({ cls := "GrowingDoorModel", name := "growsNow", desc := "()I" } : Jvm.MethodName)) ∈ lw_all := lw_g (lw_at lw_m8 58 rfl) rfl
theorem q1824 : (Jvm.Cond.privateMethod ({ cls := "GrowingDoorModel", name := "growsNow", desc := "()I" } : Jvm.MethodName)) ∈ lw_tbl := lw_at lw_m8 59 rfl
theorem q1825 : (Jvm.Cond.instanceMethod ({ cls := "GrowingDoorModel", name := "growsNow", desc := "()I" } : Jvm.MethodName)) ∈ lw_all := lw_g (lw_at lw_m8 60 rfl) rfl
theorem q1826 : (Jvm.Cond.code ({ cls := "GrowingDoorModel", name := "growsNow", desc := "()I" } : Jvm.MethodName) prog_24_method_37_code (2 : Nat) (Option.some Jvm.ClassFile.FieldType.int)) ∈ lw_all := lw_g (lw_at lw_m8 61 rfl) rfl
theorem q1827 : (Jvm.Cond.methodLink "GrowingDoorModel" (288 : Nat) ({ cls := "GrowingDoorModel", name := "valueNow", desc := "()I" } : Jvm.MethodName)) ∈ lw_all := lw_g (lw_at lw_m8 62 rfl) rfl
theorem q1828 : (Jvm.Cond.privateMethod ({ cls := "GrowingDoorModel", name := "valueNow", desc := "()I" } : Jvm.MethodName)) ∈ lw_tbl := lw_at lw_m8 63 rfl
theorem q1829 : (Jvm.Cond.instanceMethod ({ cls := "GrowingDoorModel", name := "valueNow", desc := "()I" } : Jvm.MethodName)) ∈ lw_all := lw_g (lw_at lw_m8 64 rfl) rfl
theorem q1830 : (Jvm.Cond.code ({ cls := "GrowingDoorModel", name := "valueNow", desc := "()I" } : Jvm.MethodName) prog_24_method_35_code (4 : Nat) (Option.some Jvm.ClassFile.FieldType.int)) ∈ lw_all := lw_g (lw_at lw_m8 65 rfl) rfl
theorem q1831 : (Jvm.Cond.methodLink "GrowingDoorModel" (284 : Nat) ({ cls := "GrowingDoorModel", name := "both", desc := "(III)I" } : Jvm.MethodName)) ∈ lw_all := lw_g (lw_at lw_m8 66 rfl) rfl
theorem q1832 : (Jvm.Cond.static ({ cls := "GrowingDoorModel", name := "both", desc := "(III)I" } : Jvm.MethodName)) ∈ lw_all := lw_g (lw_at lw_m8 67 rfl) rfl
theorem q1833 : (Jvm.Cond.code ({ cls := "GrowingDoorModel", name := "both", desc := "(III)I" } : Jvm.MethodName) prog_24_method_36_code (3 : Nat) (Option.some Jvm.ClassFile.FieldType.int)) ∈ lw_all := lw_g (lw_at lw_m8 68 rfl) rfl
theorem q1834 : (Jvm.Cond.methodLink "GrowingDoorModel" (356 : Nat) ({ cls := "GrowingDoorModel", name := "held", desc := "(I)I" } : Jvm.MethodName)) ∈ lw_all := lw_g (lw_at lw_m8 69 rfl) rfl
theorem q1835 : (Jvm.Cond.static ({ cls := "GrowingDoorModel", name := "held", desc := "(I)I" } : Jvm.MethodName)) ∈ lw_all := lw_g (lw_at lw_m8 70 rfl) rfl
theorem q1836 : (Jvm.Cond.code ({ cls := "GrowingDoorModel", name := "held", desc := "(I)I" } : Jvm.MethodName) prog_24_method_51_code (1 : Nat) (Option.some Jvm.ClassFile.FieldType.int)) ∈ lw_all := lw_g (lw_at lw_m8 71 rfl) rfl
theorem q1837 : (Jvm.Cond.methodLink "GrowingDoorModel" (359 : Nat) ({ cls := "GrowingDoorModel", name := "swellsOf", desc := "(I)I" } : Jvm.MethodName)) ∈ lw_all := lw_g (lw_at lw_m8 72 rfl) rfl
theorem q1838 : (Jvm.Cond.privateMethod ({ cls := "GrowingDoorModel", name := "swellsOf", desc := "(I)I" } : Jvm.MethodName)) ∈ lw_tbl := lw_at lw_m8 73 rfl
theorem q1839 : (Jvm.Cond.instanceMethod ({ cls := "GrowingDoorModel", name := "swellsOf", desc := "(I)I" } : Jvm.MethodName)) ∈ lw_all := lw_g (lw_at lw_m8 74 rfl) rfl
theorem q1840 : (Jvm.Cond.code ({ cls := "GrowingDoorModel", name := "swellsOf", desc := "(I)I" } : Jvm.MethodName) prog_24_method_50_code (3 : Nat) (Option.some Jvm.ClassFile.FieldType.int)) ∈ lw_all := lw_g (lw_at lw_m8 75 rfl) rfl
theorem q1842 : (Jvm.Cond.instanceMethod ({ cls := "GrowingDoorModel", name := "book", desc := "(I)I" } : Jvm.MethodName)) ∈ lw_all := lw_g (lw_at lw_m8 77 rfl) rfl
theorem q1843 : (Jvm.Cond.selects "GrowingDoorModel" ({ cls := "GrowingDoorModel", name := "book", desc := "(I)I" } : Jvm.MethodName) ({ cls := "GrowingDoorModel", name := "book", desc := "(I)I" } : Jvm.MethodName)) ∈ lw_all := lw_g (lw_at lw_m8 78 rfl) rfl
theorem q1844 : (Jvm.Cond.code ({ cls := "GrowingDoorModel", name := "book", desc := "(I)I" } : Jvm.MethodName) prog_24_method_58_code (6 : Nat) (Option.some Jvm.ClassFile.FieldType.int)) ∈ lw_all := lw_g (lw_at lw_m8 79 rfl) rfl
theorem q1846 : (Jvm.Cond.instanceMethod ({ cls := "GrowingDoorModel", name := "undo", desc := "()I" } : Jvm.MethodName)) ∈ lw_all := lw_g (lw_at lw_m8 81 rfl) rfl
theorem q1847 : (Jvm.Cond.selects "GrowingDoorModel" ({ cls := "GrowingDoorModel", name := "undo", desc := "()I" } : Jvm.MethodName) ({ cls := "GrowingDoorModel", name := "undo", desc := "()I" } : Jvm.MethodName)) ∈ lw_all := lw_g (lw_at lw_m8 82 rfl) rfl
theorem q1848 : (Jvm.Cond.code ({ cls := "GrowingDoorModel", name := "undo", desc := "()I" } : Jvm.MethodName) prog_24_method_59_code (2 : Nat) (Option.some Jvm.ClassFile.FieldType.int)) ∈ lw_all := lw_g (lw_at lw_m8 83 rfl) rfl
theorem q1850 : (Jvm.Cond.instanceMethod ({ cls := "GrowingDoorModel", name := "told", desc := "(I)I" } : Jvm.MethodName)) ∈ lw_all := lw_g (lw_at lw_m8 85 rfl) rfl
theorem q1851 : (Jvm.Cond.selects "GrowingDoorModel" ({ cls := "GrowingDoorModel", name := "told", desc := "(I)I" } : Jvm.MethodName) ({ cls := "GrowingDoorModel", name := "told", desc := "(I)I" } : Jvm.MethodName)) ∈ lw_all := lw_g (lw_at lw_m8 86 rfl) rfl
theorem q1852 : (Jvm.Cond.code ({ cls := "GrowingDoorModel", name := "told", desc := "(I)I" } : Jvm.MethodName) prog_24_method_61_code (2 : Nat) (Option.some Jvm.ClassFile.FieldType.int)) ∈ lw_all := lw_g (lw_at lw_m8 87 rfl) rfl
theorem q1853 : (Jvm.Cond.methodLink "GrowingDoorModel" (378 : Nat) ({ cls := "GrowingDoorModel", name := "within", desc := "(III)Z" } : Jvm.MethodName)) ∈ lw_all := lw_g (lw_at lw_m8 88 rfl) rfl
theorem q1854 : (Jvm.Cond.static ({ cls := "GrowingDoorModel", name := "within", desc := "(III)Z" } : Jvm.MethodName)) ∈ lw_all := lw_g (lw_at lw_m8 89 rfl) rfl
theorem q1855 : (Jvm.Cond.code ({ cls := "GrowingDoorModel", name := "within", desc := "(III)Z" } : Jvm.MethodName) prog_24_method_3_code (3 : Nat) (Option.some Jvm.ClassFile.FieldType.boolean)) ∈ lw_all := lw_g (lw_at lw_m8 90 rfl) rfl
theorem q1856 : (Jvm.Cond.methodLink "GrowingDoorModel" (381 : Nat) ({ cls := "GrowingDoorModel", name := "bitsTold", desc := "(I)I" } : Jvm.MethodName)) ∈ lw_all := lw_g (lw_at lw_m8 91 rfl) rfl
theorem q1857 : (Jvm.Cond.privateMethod ({ cls := "GrowingDoorModel", name := "bitsTold", desc := "(I)I" } : Jvm.MethodName)) ∈ lw_tbl := lw_at lw_m8 92 rfl
theorem q1858 : (Jvm.Cond.instanceMethod ({ cls := "GrowingDoorModel", name := "bitsTold", desc := "(I)I" } : Jvm.MethodName)) ∈ lw_all := lw_g (lw_at lw_m8 93 rfl) rfl
theorem q1859 : (Jvm.Cond.code ({ cls := "GrowingDoorModel", name := "bitsTold", desc := "(I)I" } : Jvm.MethodName) prog_24_method_60_code (4 : Nat) (Option.some Jvm.ClassFile.FieldType.int)) ∈ lw_all := lw_g (lw_at lw_m8 94 rfl) rfl
theorem q1860 : (Jvm.Cond.methodLink "GrowingDoorModel" (384 : Nat) ({ cls := "GrowingDoorModel", name := "famousNow", desc := "()I" } : Jvm.MethodName)) ∈ lw_all := lw_g (lw_at lw_m8 95 rfl) rfl
theorem q1861 : (Jvm.Cond.privateMethod ({ cls := "GrowingDoorModel", name := "famousNow", desc := "()I" } : Jvm.MethodName)) ∈ lw_tbl := lw_at lw_m8 96 rfl
theorem q1862 : (Jvm.Cond.instanceMethod ({ cls := "GrowingDoorModel", name := "famousNow", desc := "()I" } : Jvm.MethodName)) ∈ lw_all := lw_g (lw_at lw_m8 97 rfl) rfl
theorem q1863 : (Jvm.Cond.code ({ cls := "GrowingDoorModel", name := "famousNow", desc := "()I" } : Jvm.MethodName) prog_24_method_57_code (3 : Nat) (Option.some Jvm.ClassFile.FieldType.int)) ∈ lw_all := lw_g (lw_at lw_m8 98 rfl) rfl
theorem q1865 : (Jvm.Cond.instanceMethod ({ cls := "GrowingDoorModel", name := "board", desc := "(II)I" } : Jvm.MethodName)) ∈ lw_all := lw_g (lw_at lw_m8 100 rfl) rfl
theorem q1866 : (Jvm.Cond.selects "GrowingDoorModel" ({ cls := "GrowingDoorModel", name := "board", desc := "(II)I" } : Jvm.MethodName) ({ cls := "GrowingDoorModel", name := "board", desc := "(II)I" } : Jvm.MethodName)) ∈ lw_all := lw_g (lw_at lw_m8 101 rfl) rfl
theorem q1867 : (Jvm.Cond.code ({ cls := "GrowingDoorModel", name := "board", desc := "(II)I" } : Jvm.MethodName) prog_24_method_64_code (5 : Nat) (Option.some Jvm.ClassFile.FieldType.int)) ∈ lw_all := lw_g (lw_at lw_m8 102 rfl) rfl
theorem q1868 : (Jvm.Cond.methodLink "GrowingDoorModel" (387 : Nat) ({ cls := "GrowingDoorModel", name := "isBoard", desc := "(II)Z" } : Jvm.MethodName)) ∈ lw_all := lw_g (lw_at lw_m8 103 rfl) rfl
theorem q1869 : (Jvm.Cond.privateMethod ({ cls := "GrowingDoorModel", name := "isBoard", desc := "(II)Z" } : Jvm.MethodName)) ∈ lw_tbl := lw_at lw_m8 104 rfl
theorem q1870 : (Jvm.Cond.instanceMethod ({ cls := "GrowingDoorModel", name := "isBoard", desc := "(II)Z" } : Jvm.MethodName)) ∈ lw_all := lw_g (lw_at lw_m8 105 rfl) rfl
theorem q1871 : (Jvm.Cond.code ({ cls := "GrowingDoorModel", name := "isBoard", desc := "(II)Z" } : Jvm.MethodName) prog_24_method_62_code (3 : Nat) (Option.some Jvm.ClassFile.FieldType.boolean)) ∈ lw_all := lw_g (lw_at lw_m8 106 rfl) rfl
theorem q1873 : (Jvm.Cond.instanceMethod ({ cls := "GrowingDoorModel", name := "boy", desc := "(II)I" } : Jvm.MethodName)) ∈ lw_all := lw_g (lw_at lw_m8 108 rfl) rfl
theorem q1874 : (Jvm.Cond.selects "GrowingDoorModel" ({ cls := "GrowingDoorModel", name := "boy", desc := "(II)I" } : Jvm.MethodName) ({ cls := "GrowingDoorModel", name := "boy", desc := "(II)I" } : Jvm.MethodName)) ∈ lw_all := lw_g (lw_at lw_m8 109 rfl) rfl
theorem q1875 : (Jvm.Cond.code ({ cls := "GrowingDoorModel", name := "boy", desc := "(II)I" } : Jvm.MethodName) prog_24_method_65_code (3 : Nat) (Option.some Jvm.ClassFile.FieldType.int)) ∈ lw_all := lw_g (lw_at lw_m8 110 rfl) rfl
theorem q1876 : (Jvm.Cond.methodLink "GrowingDoorModel" (390 : Nat) ({ cls := "GrowingDoorModel", name := "isBoy", desc := "(II)Z" } : Jvm.MethodName)) ∈ lw_all := lw_g (lw_at lw_m8 111 rfl) rfl
theorem q1877 : (Jvm.Cond.privateMethod ({ cls := "GrowingDoorModel", name := "isBoy", desc := "(II)Z" } : Jvm.MethodName)) ∈ lw_tbl := lw_at lw_m8 112 rfl
theorem q1878 : (Jvm.Cond.instanceMethod ({ cls := "GrowingDoorModel", name := "isBoy", desc := "(II)Z" } : Jvm.MethodName)) ∈ lw_all := lw_g (lw_at lw_m8 113 rfl) rfl
theorem q1879 : (Jvm.Cond.code ({ cls := "GrowingDoorModel", name := "isBoy", desc := "(II)Z" } : Jvm.MethodName) prog_24_method_63_code (3 : Nat) (Option.some Jvm.ClassFile.FieldType.boolean)) ∈ lw_all := lw_g (lw_at lw_m8 114 rfl) rfl
theorem q1881 : (Jvm.Cond.instanceMethod ({ cls := "GrowingDoorModel", name := "grows", desc := "(I)I" } : Jvm.MethodName)) ∈ lw_all := lw_g (lw_at lw_m8 116 rfl) rfl
theorem q1882 : (Jvm.Cond.selects "GrowingDoorModel" ({ cls := "GrowingDoorModel", name := "grows", desc := "(I)I" } : Jvm.MethodName) ({ cls := "GrowingDoorModel", name := "grows", desc := "(I)I" } : Jvm.MethodName)) ∈ lw_all := lw_g (lw_at lw_m8 117 rfl) rfl
theorem q1883 : (Jvm.Cond.code ({ cls := "GrowingDoorModel", name := "grows", desc := "(I)I" } : Jvm.MethodName) prog_24_method_66_code (2 : Nat) (Option.some Jvm.ClassFile.FieldType.int)) ∈ lw_all := lw_g (lw_at lw_m8 118 rfl) rfl
theorem q1885 : (Jvm.Cond.instanceMethod ({ cls := "GrowingDoorModel", name := "would", desc := "(IIIIIIII)I" } : Jvm.MethodName)) ∈ lw_all := lw_g (lw_at lw_m8 120 rfl) rfl
theorem q1886 : (Jvm.Cond.selects "GrowingDoorModel" ({ cls := "GrowingDoorModel", name := "would", desc := "(IIIIIIII)I" } : Jvm.MethodName) ({ cls := "GrowingDoorModel", name := "would", desc := "(IIIIIIII)I" } : Jvm.MethodName)) ∈ lw_all := lw_g (lw_at lw_m8 121 rfl) rfl
theorem q1887 : (Jvm.Cond.code ({ cls := "GrowingDoorModel", name := "would", desc := "(IIIIIIII)I" } : Jvm.MethodName) prog_24_method_67_code (9 : Nat) (Option.some Jvm.ClassFile.FieldType.int)) ∈ lw_all := lw_g (lw_at lw_m8 122 rfl) rfl
theorem q1889 : (Jvm.Cond.instanceMethod ({ cls := "GrowingDoorModel", name := "ahead", desc := "(II)I" } : Jvm.MethodName)) ∈ lw_all := lw_g (lw_at lw_m8 124 rfl) rfl
theorem q1890 : (Jvm.Cond.selects "GrowingDoorModel" ({ cls := "GrowingDoorModel", name := "ahead", desc := "(II)I" } : Jvm.MethodName) ({ cls := "GrowingDoorModel", name := "ahead", desc := "(II)I" } : Jvm.MethodName)) ∈ lw_all := lw_g (lw_at lw_m8 125 rfl) rfl
theorem q1891 : (Jvm.Cond.code ({ cls := "GrowingDoorModel", name := "ahead", desc := "(II)I" } : Jvm.MethodName) prog_24_method_69_code (4 : Nat) (Option.some Jvm.ClassFile.FieldType.int)) ∈ lw_all := lw_g (lw_at lw_m8 126 rfl) rfl
theorem q1892 : (Jvm.Cond.methodLink "GrowingDoorModel" (393 : Nat) ({ cls := "GrowingDoorModel", name := "highAll", desc := "()I" } : Jvm.MethodName)) ∈ lw_all := lw_g (lw_at lw_m8 127 rfl) rfl
theorem q1893 : (Jvm.Cond.privateMethod ({ cls := "GrowingDoorModel", name := "highAll", desc := "()I" } : Jvm.MethodName)) ∈ lw_tbl := lw_at lw_m8 128 rfl
theorem q1894 : (Jvm.Cond.instanceMethod ({ cls := "GrowingDoorModel", name := "highAll", desc := "()I" } : Jvm.MethodName)) ∈ lw_all := lw_g (lw_at lw_m8 129 rfl) rfl
theorem q1895 : (Jvm.Cond.code ({ cls := "GrowingDoorModel", name := "highAll", desc := "()I" } : Jvm.MethodName) prog_24_method_68_code (3 : Nat) (Option.some Jvm.ClassFile.FieldType.int)) ∈ lw_all := lw_g (lw_at lw_m8 130 rfl) rfl
theorem q1897 : (Jvm.Cond.instanceMethod ({ cls := "GrowingDoorModel", name := "passes", desc := "(II)I" } : Jvm.MethodName)) ∈ lw_all := lw_g (lw_at lw_m8 132 rfl) rfl
theorem q1898 : (Jvm.Cond.selects "GrowingDoorModel" ({ cls := "GrowingDoorModel", name := "passes", desc := "(II)I" } : Jvm.MethodName) ({ cls := "GrowingDoorModel", name := "passes", desc := "(II)I" } : Jvm.MethodName)) ∈ lw_all := lw_g (lw_at lw_m8 133 rfl) rfl
theorem q1899 : (Jvm.Cond.code ({ cls := "GrowingDoorModel", name := "passes", desc := "(II)I" } : Jvm.MethodName) prog_24_method_70_code (4 : Nat) (Option.some Jvm.ClassFile.FieldType.int)) ∈ lw_all := lw_g (lw_at lw_m8 134 rfl) rfl
theorem q1901 : (Jvm.Cond.instanceMethod ({ cls := "GrowingDoorModel", name := "sinks", desc := "(I)I" } : Jvm.MethodName)) ∈ lw_all := lw_g (lw_at lw_m8 136 rfl) rfl
theorem q1902 : (Jvm.Cond.selects "GrowingDoorModel" ({ cls := "GrowingDoorModel", name := "sinks", desc := "(I)I" } : Jvm.MethodName) ({ cls := "GrowingDoorModel", name := "sinks", desc := "(I)I" } : Jvm.MethodName)) ∈ lw_all := lw_g (lw_at lw_m8 137 rfl) rfl
theorem q1903 : (Jvm.Cond.code ({ cls := "GrowingDoorModel", name := "sinks", desc := "(I)I" } : Jvm.MethodName) prog_24_method_71_code (3 : Nat) (Option.some Jvm.ClassFile.FieldType.int)) ∈ lw_all := lw_g (lw_at lw_m8 138 rfl) rfl
theorem q1905 : (Jvm.Cond.instanceMethod ({ cls := "GrowingDoorModel", name := "feeds", desc := "(II)I" } : Jvm.MethodName)) ∈ lw_all := lw_g (lw_at lw_m8 140 rfl) rfl
theorem q1906 : (Jvm.Cond.selects "GrowingDoorModel" ({ cls := "GrowingDoorModel", name := "feeds", desc := "(II)I" } : Jvm.MethodName) ({ cls := "GrowingDoorModel", name := "feeds", desc := "(II)I" } : Jvm.MethodName)) ∈ lw_all := lw_g (lw_at lw_m8 141 rfl) rfl
theorem q1907 : (Jvm.Cond.code ({ cls := "GrowingDoorModel", name := "feeds", desc := "(II)I" } : Jvm.MethodName) prog_24_method_72_code (5 : Nat) (Option.some Jvm.ClassFile.FieldType.int)) ∈ lw_all := lw_g (lw_at lw_m8 142 rfl) rfl
theorem q1909 : (Jvm.Cond.instanceMethod ({ cls := "GrowingDoorModel", name := "mates", desc := "()I" } : Jvm.MethodName)) ∈ lw_all := lw_g (lw_at lw_m8 144 rfl) rfl
theorem q1910 : (Jvm.Cond.selects "GrowingDoorModel" ({ cls := "GrowingDoorModel", name := "mates", desc := "()I" } : Jvm.MethodName) ({ cls := "GrowingDoorModel", name := "mates", desc := "()I" } : Jvm.MethodName)) ∈ lw_all := lw_g (lw_at lw_m8 145 rfl) rfl
theorem q1911 : (Jvm.Cond.code ({ cls := "GrowingDoorModel", name := "mates", desc := "()I" } : Jvm.MethodName) prog_24_method_79_code (1 : Nat) (Option.some Jvm.ClassFile.FieldType.int)) ∈ lw_all := lw_g (lw_at lw_m8 146 rfl) rfl
theorem q1912 : (Jvm.Cond.methodLink "GrowingDoorModel" (411 : Nat) ({ cls := "GrowingDoorModel", name := "findMates", desc := "()I" } : Jvm.MethodName)) ∈ lw_all := lw_g (lw_at lw_m8 147 rfl) rfl
theorem q1913 : (Jvm.Cond.privateMethod ({ cls := "GrowingDoorModel", name := "findMates", desc := "()I" } : Jvm.MethodName)) ∈ lw_tbl := lw_at lw_m8 148 rfl
theorem q1914 : (Jvm.Cond.instanceMethod ({ cls := "GrowingDoorModel", name := "findMates", desc := "()I" } : Jvm.MethodName)) ∈ lw_all := lw_g (lw_at lw_m8 149 rfl) rfl
theorem q1915 : (Jvm.Cond.code ({ cls := "GrowingDoorModel", name := "findMates", desc := "()I" } : Jvm.MethodName) prog_24_method_78_code (9 : Nat) (Option.some Jvm.ClassFile.FieldType.int)) ∈ lw_all := lw_g (lw_at lw_m8 150 rfl) rfl
theorem q1916 : (Jvm.Cond.methodLink "GrowingDoorModel" (402 : Nat) ({ cls := "GrowingDoorModel", name := "layMates", desc := "(II)I" } : Jvm.MethodName)) ∈ lw_all := lw_g (lw_at lw_m8 151 rfl) rfl
theorem q1917 : (Jvm.Cond.privateMethod ({ cls := "GrowingDoorModel", name := "layMates", desc := "(II)I" } : Jvm.MethodName)) ∈ lw_tbl := lw_at lw_m8 152 rfl
theorem q1918 : (Jvm.Cond.instanceMethod ({ cls := "GrowingDoorModel", name := "layMates", desc := "(II)I" } : Jvm.MethodName)) ∈ lw_all := lw_g (lw_at lw_m8 153 rfl) rfl
theorem q1919 : (Jvm.Cond.code ({ cls := "GrowingDoorModel", name := "layMates", desc := "(II)I" } : Jvm.MethodName) prog_24_method_75_code (9 : Nat) (Option.some Jvm.ClassFile.FieldType.int)) ∈ lw_all := lw_g (lw_at lw_m8 154 rfl) rfl
theorem q1920 : (Jvm.Cond.methodLink "GrowingDoorModel" (396 : Nat) ({ cls := "GrowingDoorModel", name := "lowest", desc := "(I)I" } : Jvm.MethodName)) ∈ lw_all := lw_g (lw_at lw_m8 155 rfl) rfl
theorem q1921 : (Jvm.Cond.static ({ cls := "GrowingDoorModel", name := "lowest", desc := "(I)I" } : Jvm.MethodName)) ∈ lw_all := lw_g (lw_at lw_m8 156 rfl) rfl
theorem q1922 : (Jvm.Cond.code ({ cls := "GrowingDoorModel", name := "lowest", desc := "(I)I" } : Jvm.MethodName) prog_24_method_74_code (2 : Nat) (Option.some Jvm.ClassFile.FieldType.int)) ∈ lw_all := lw_g (lw_at lw_m8 157 rfl) rfl
theorem q1923 : (Jvm.Cond.methodLink "GrowingDoorModel" (399 : Nat) ({ cls := "GrowingDoorModel", name := "far", desc := "(II)I" } : Jvm.MethodName)) ∈ lw_all := lw_g (lw_at lw_m8 158 rfl) rfl
theorem q1924 : (Jvm.Cond.privateMethod ({ cls := "GrowingDoorModel", name := "far", desc := "(II)I" } : Jvm.MethodName)) ∈ lw_tbl := lw_at lw_m8 159 rfl
theorem q1925 : (Jvm.Cond.instanceMethod ({ cls := "GrowingDoorModel", name := "far", desc := "(II)I" } : Jvm.MethodName)) ∈ lw_all := lw_g (lw_at lw_m8 160 rfl) rfl
theorem q1926 : (Jvm.Cond.code ({ cls := "GrowingDoorModel", name := "far", desc := "(II)I" } : Jvm.MethodName) prog_24_method_73_code (3 : Nat) (Option.some Jvm.ClassFile.FieldType.int)) ∈ lw_all := lw_g (lw_at lw_m8 161 rfl) rfl
theorem q1927 : (Jvm.Cond.methodLink "GrowingDoorModel" (405 : Nat) ({ cls := "GrowingDoorModel", name := "thereNow", desc := "()I" } : Jvm.MethodName)) ∈ lw_all := lw_g (lw_at lw_m8 162 rfl) rfl
theorem q1928 : (Jvm.Cond.privateMethod ({ cls := "GrowingDoorModel", name := "thereNow", desc := "()I" } : Jvm.MethodName)) ∈ lw_tbl := lw_at lw_m8 163 rfl
theorem q1929 : (Jvm.Cond.instanceMethod ({ cls := "GrowingDoorModel", name := "thereNow", desc := "()I" } : Jvm.MethodName)) ∈ lw_all := lw_g (lw_at lw_m8 164 rfl) rfl
theorem q1930 : (Jvm.Cond.code ({ cls := "GrowingDoorModel", name := "thereNow", desc := "()I" } : Jvm.MethodName) prog_24_method_76_code (3 : Nat) (Option.some Jvm.ClassFile.FieldType.int)) ∈ lw_all := lw_g (lw_at lw_m8 165 rfl) rfl
theorem q1931 : (Jvm.Cond.methodLink "GrowingDoorModel" (408 : Nat) ({ cls := "GrowingDoorModel", name := "odd", desc := "(I)I" } : Jvm.MethodName)) ∈ lw_all := lw_g (lw_at lw_m8 166 rfl) rfl
theorem q1932 : (Jvm.Cond.static ({ cls := "GrowingDoorModel", name := "odd", desc := "(I)I" } : Jvm.MethodName)) ∈ lw_all := lw_g (lw_at lw_m8 167 rfl) rfl
theorem q1933 : (Jvm.Cond.code ({ cls := "GrowingDoorModel", name := "odd", desc := "(I)I" } : Jvm.MethodName) prog_24_method_77_code (3 : Nat) (Option.some Jvm.ClassFile.FieldType.int)) ∈ lw_all := lw_g (lw_at lw_m8 168 rfl) rfl
theorem q1935 : (Jvm.Cond.instanceMethod ({ cls := "GrowingDoorModel", name := "mate", desc := "(I)I" } : Jvm.MethodName)) ∈ lw_all := lw_g (lw_at lw_m8 170 rfl) rfl
theorem q1936 : (Jvm.Cond.selects "GrowingDoorModel" ({ cls := "GrowingDoorModel", name := "mate", desc := "(I)I" } : Jvm.MethodName) ({ cls := "GrowingDoorModel", name := "mate", desc := "(I)I" } : Jvm.MethodName)) ∈ lw_all := lw_g (lw_at lw_m8 171 rfl) rfl
theorem q1937 : (Jvm.Cond.code ({ cls := "GrowingDoorModel", name := "mate", desc := "(I)I" } : Jvm.MethodName) prog_24_method_80_code (2 : Nat) (Option.some Jvm.ClassFile.FieldType.int)) ∈ lw_all := lw_g (lw_at lw_m8 172 rfl) rfl
theorem q1939 : (Jvm.Cond.instanceMethod ({ cls := "GrowingDoorModel", name := "ladder", desc := "()I" } : Jvm.MethodName)) ∈ lw_all := lw_g (lw_at lw_m8 174 rfl) rfl
theorem q1940 : (Jvm.Cond.selects "GrowingDoorModel" ({ cls := "GrowingDoorModel", name := "ladder", desc := "()I" } : Jvm.MethodName) ({ cls := "GrowingDoorModel", name := "ladder", desc := "()I" } : Jvm.MethodName)) ∈ lw_all := lw_g (lw_at lw_m8 175 rfl) rfl
theorem q1941 : (Jvm.Cond.code ({ cls := "GrowingDoorModel", name := "ladder", desc := "()I" } : Jvm.MethodName) prog_24_method_82_code (1 : Nat) (Option.some Jvm.ClassFile.FieldType.int)) ∈ lw_all := lw_g (lw_at lw_m8 176 rfl) rfl
theorem q1942 : (Jvm.Cond.methodLink "GrowingDoorModel" (414 : Nat) ({ cls := "GrowingDoorModel", name := "layLadder", desc := "()I" } : Jvm.MethodName)) ∈ lw_all := lw_g (lw_at lw_m8 177 rfl) rfl
theorem q1943 : (Jvm.Cond.privateMethod ({ cls := "GrowingDoorModel", name := "layLadder", desc := "()I" } : Jvm.MethodName)) ∈ lw_tbl := lw_at lw_m8 178 rfl
theorem q1944 : (Jvm.Cond.instanceMethod ({ cls := "GrowingDoorModel", name := "layLadder", desc := "()I" } : Jvm.MethodName)) ∈ lw_all := lw_g (lw_at lw_m8 179 rfl) rfl
theorem q1945 : (Jvm.Cond.code ({ cls := "GrowingDoorModel", name := "layLadder", desc := "()I" } : Jvm.MethodName) prog_24_method_81_code (4 : Nat) (Option.some Jvm.ClassFile.FieldType.int)) ∈ lw_all := lw_g (lw_at lw_m8 180 rfl) rfl
theorem q1947 : (Jvm.Cond.instanceMethod ({ cls := "GrowingDoorModel", name := "rung", desc := "(I)I" } : Jvm.MethodName)) ∈ lw_all := lw_g (lw_at lw_m8 182 rfl) rfl
theorem q1948 : (Jvm.Cond.selects "GrowingDoorModel" ({ cls := "GrowingDoorModel", name := "rung", desc := "(I)I" } : Jvm.MethodName) ({ cls := "GrowingDoorModel", name := "rung", desc := "(I)I" } : Jvm.MethodName)) ∈ lw_all := lw_g (lw_at lw_m8 183 rfl) rfl
theorem q1949 : (Jvm.Cond.code ({ cls := "GrowingDoorModel", name := "rung", desc := "(I)I" } : Jvm.MethodName) prog_24_method_83_code (6 : Nat) (Option.some Jvm.ClassFile.FieldType.int)) ∈ lw_all := lw_g (lw_at lw_m8 184 rfl) rfl
theorem q1951 : (Jvm.Cond.instanceMethod ({ cls := "GrowingDoorModel", name := "fits", desc := "(II)I" } : Jvm.MethodName)) ∈ lw_all := lw_g (lw_at lw_m8 186 rfl) rfl
theorem q1952 : (Jvm.Cond.selects "GrowingDoorModel" ({ cls := "GrowingDoorModel", name := "fits", desc := "(II)I" } : Jvm.MethodName) ({ cls := "GrowingDoorModel", name := "fits", desc := "(II)I" } : Jvm.MethodName)) ∈ lw_all := lw_g (lw_at lw_m8 187 rfl) rfl
theorem q1953 : (Jvm.Cond.code ({ cls := "GrowingDoorModel", name := "fits", desc := "(II)I" } : Jvm.MethodName) prog_24_method_85_code (6 : Nat) (Option.some Jvm.ClassFile.FieldType.int)) ∈ lw_all := lw_g (lw_at lw_m8 188 rfl) rfl
theorem q1954 : (Jvm.Cond.methodLink "GrowingDoorModel" (417 : Nat) ({ cls := "GrowingDoorModel", name := "findPairs", desc := "(I)V" } : Jvm.MethodName)) ∈ lw_all := lw_g (lw_at lw_m8 189 rfl) rfl
theorem q1955 : (Jvm.Cond.privateMethod ({ cls := "GrowingDoorModel", name := "findPairs", desc := "(I)V" } : Jvm.MethodName)) ∈ lw_tbl := lw_at lw_m8 190 rfl
theorem q1956 : (Jvm.Cond.instanceMethod ({ cls := "GrowingDoorModel", name := "findPairs", desc := "(I)V" } : Jvm.MethodName)) ∈ lw_all := lw_g (lw_at lw_m8 191 rfl) rfl
theorem q1957 : (Jvm.Cond.code ({ cls := "GrowingDoorModel", name := "findPairs", desc := "(I)V" } : Jvm.MethodName) prog_24_method_84_code (4 : Nat) (Option.none : Option Jvm.ClassFile.FieldType)) ∈ lw_all := lw_g (lw_at lw_m8 192 rfl) rfl
theorem q1959 : (Jvm.Cond.instanceMethod ({ cls := "GrowingDoorModel", name := "look", desc := "(II)I" } : Jvm.MethodName)) ∈ lw_all := lw_g (lw_at lw_m8 194 rfl) rfl
theorem q1960 : (Jvm.Cond.selects "GrowingDoorModel" ({ cls := "GrowingDoorModel", name := "look", desc := "(II)I" } : Jvm.MethodName) ({ cls := "GrowingDoorModel", name := "look", desc := "(II)I" } : Jvm.MethodName)) ∈ lw_all := lw_g (lw_at lw_m8 195 rfl) rfl
theorem q1961 : (Jvm.Cond.code ({ cls := "GrowingDoorModel", name := "look", desc := "(II)I" } : Jvm.MethodName) prog_24_method_86_code (9 : Nat) (Option.some Jvm.ClassFile.FieldType.int)) ∈ lw_all := lw_g (lw_at lw_m8 196 rfl) rfl
theorem q1963 : (Jvm.Cond.instanceMethod ({ cls := "GrowingDoorModel", name := "run", desc := "(IIII)J" } : Jvm.MethodName)) ∈ lw_all := lw_g (lw_at lw_m8 198 rfl) rfl
theorem q1964 : (Jvm.Cond.selects "GrowingDoorModel" ({ cls := "GrowingDoorModel", name := "run", desc := "(IIII)J" } : Jvm.MethodName) ({ cls := "GrowingDoorModel", name := "run", desc := "(IIII)J" } : Jvm.MethodName)) ∈ lw_all := lw_g (lw_at lw_m8 199 rfl) rfl
theorem q1965 : (Jvm.Cond.code ({ cls := "GrowingDoorModel", name := "run", desc := "(IIII)J" } : Jvm.MethodName) prog_24_method_88_code (11 : Nat) (Option.some Jvm.ClassFile.FieldType.long)) ∈ lw_all := lw_g (lw_at lw_m8 200 rfl) rfl
theorem q1966 : (Jvm.Cond.constantLong "GrowingDoorModel" (420 : Nat) (16 : Int64)) ∈ lw_all := lw_g (lw_at lw_m8 201 rfl) rfl
theorem q1967 : (Jvm.Cond.methodLink "GrowingDoorModel" (422 : Nat) ({ cls := "GrowingDoorModel", name := "least", desc := "(JJI)J" } : Jvm.MethodName)) ∈ lw_all := lw_g (lw_at lw_m8 202 rfl) rfl
theorem q1968 : (Jvm.Cond.static ({ cls := "GrowingDoorModel", name := "least", desc := "(JJI)J" } : Jvm.MethodName)) ∈ lw_all := lw_g (lw_at lw_m8 203 rfl) rfl
theorem q1969 : (Jvm.Cond.code ({ cls := "GrowingDoorModel", name := "least", desc := "(JJI)J" } : Jvm.MethodName) prog_24_method_87_code (11 : Nat) (Option.some Jvm.ClassFile.FieldType.long)) ∈ lw_all := lw_g (lw_at lw_m8 204 rfl) rfl
theorem q1971 : (Jvm.Cond.instanceMethod ({ cls := "GrowingDoorModel", name := "planes", desc := "(III)I" } : Jvm.MethodName)) ∈ lw_all := lw_g (lw_at lw_m8 206 rfl) rfl
theorem q1972 : (Jvm.Cond.selects "GrowingDoorModel" ({ cls := "GrowingDoorModel", name := "planes", desc := "(III)I" } : Jvm.MethodName) ({ cls := "GrowingDoorModel", name := "planes", desc := "(III)I" } : Jvm.MethodName)) ∈ lw_all := lw_g (lw_at lw_m8 207 rfl) rfl
theorem q1973 : (Jvm.Cond.code ({ cls := "GrowingDoorModel", name := "planes", desc := "(III)I" } : Jvm.MethodName) prog_24_method_90_code (9 : Nat) (Option.some Jvm.ClassFile.FieldType.int)) ∈ lw_all := lw_g (lw_at lw_m8 208 rfl) rfl
theorem q1974 : (Jvm.Cond.methodLink "GrowingDoorModel" (425 : Nat) ({ cls := "GrowingDoorModel", name := "hasBy", desc := "(IIII)I" } : Jvm.MethodName)) ∈ lw_all := lw_g (lw_at lw_m8 209 rfl) rfl
theorem q1975 : (Jvm.Cond.static ({ cls := "GrowingDoorModel", name := "hasBy", desc := "(IIII)I" } : Jvm.MethodName)) ∈ lw_all := lw_g (lw_at lw_m8 210 rfl) rfl
theorem q1976 : (Jvm.Cond.code ({ cls := "GrowingDoorModel", name := "hasBy", desc := "(IIII)I" } : Jvm.MethodName) prog_24_method_89_code (4 : Nat) (Option.some Jvm.ClassFile.FieldType.int)) ∈ lw_all := lw_g (lw_at lw_m8 211 rfl) rfl
theorem q1978 : (Jvm.Cond.instanceMethod ({ cls := "GrowingDoorModel", name := "chairs", desc := "(III)I" } : Jvm.MethodName)) ∈ lw_all := lw_g (lw_at lw_m8 213 rfl) rfl
theorem q1979 : (Jvm.Cond.selects "GrowingDoorModel" ({ cls := "GrowingDoorModel", name := "chairs", desc := "(III)I" } : Jvm.MethodName) ({ cls := "GrowingDoorModel", name := "chairs", desc := "(III)I" } : Jvm.MethodName)) ∈ lw_all := lw_g (lw_at lw_m8 214 rfl) rfl
theorem q1980 : (Jvm.Cond.code ({ cls := "GrowingDoorModel", name := "chairs", desc := "(III)I" } : Jvm.MethodName) prog_24_method_92_code (5 : Nat) (Option.some Jvm.ClassFile.FieldType.int)) ∈ lw_all := lw_g (lw_at lw_m8 215 rfl) rfl
theorem q1981 : (Jvm.Cond.methodLink "GrowingDoorModel" (429 : Nat) ({ cls := "GrowingDoorModel", name := "chairsBy", desc := "(II)I" } : Jvm.MethodName)) ∈ lw_all := lw_g (lw_at lw_m8 216 rfl) rfl
theorem q1982 : (Jvm.Cond.privateMethod ({ cls := "GrowingDoorModel", name := "chairsBy", desc := "(II)I" } : Jvm.MethodName)) ∈ lw_tbl := lw_at lw_m8 217 rfl
theorem q1983 : (Jvm.Cond.instanceMethod ({ cls := "GrowingDoorModel", name := "chairsBy", desc := "(II)I" } : Jvm.MethodName)) ∈ lw_all := lw_g (lw_at lw_m8 218 rfl) rfl
theorem q1984 : (Jvm.Cond.code ({ cls := "GrowingDoorModel", name := "chairsBy", desc := "(II)I" } : Jvm.MethodName) prog_24_method_91_code (5 : Nat) (Option.some Jvm.ClassFile.FieldType.int)) ∈ lw_all := lw_g (lw_at lw_m8 219 rfl) rfl
theorem q1986 : (Jvm.Cond.instanceMethod ({ cls := "GrowingDoorModel", name := "tallest", desc := "(I)I" } : Jvm.MethodName)) ∈ lw_all := lw_g (lw_at lw_m8 221 rfl) rfl
theorem q1987 : (Jvm.Cond.selects "GrowingDoorModel" ({ cls := "GrowingDoorModel", name := "tallest", desc := "(I)I" } : Jvm.MethodName) ({ cls := "GrowingDoorModel", name := "tallest", desc := "(I)I" } : Jvm.MethodName)) ∈ lw_all := lw_g (lw_at lw_m8 222 rfl) rfl
theorem q1988 : (Jvm.Cond.code ({ cls := "GrowingDoorModel", name := "tallest", desc := "(I)I" } : Jvm.MethodName) prog_24_method_93_code (4 : Nat) (Option.some Jvm.ClassFile.FieldType.int)) ∈ lw_all := lw_g (lw_at lw_m8 223 rfl) rfl
theorem q1990 : (Jvm.Cond.instanceMethod ({ cls := "GrowingDoorModel", name := "gained", desc := "(I)I" } : Jvm.MethodName)) ∈ lw_all := lw_g (lw_at lw_m8 225 rfl) rfl
theorem q1991 : (Jvm.Cond.selects "GrowingDoorModel" ({ cls := "GrowingDoorModel", name := "gained", desc := "(I)I" } : Jvm.MethodName) ({ cls := "GrowingDoorModel", name := "gained", desc := "(I)I" } : Jvm.MethodName)) ∈ lw_all := lw_g (lw_at lw_m8 226 rfl) rfl
theorem q1992 : (Jvm.Cond.code ({ cls := "GrowingDoorModel", name := "gained", desc := "(I)I" } : Jvm.MethodName) prog_24_method_94_code (6 : Nat) (Option.some Jvm.ClassFile.FieldType.int)) ∈ lw_all := lw_g (lw_at lw_m8 227 rfl) rfl
theorem q1994 : (Jvm.Cond.instanceMethod ({ cls := "GrowingDoorModel", name := "lies", desc := "(I)I" } : Jvm.MethodName)) ∈ lw_all := lw_g (lw_at lw_m8 229 rfl) rfl
theorem q1995 : (Jvm.Cond.selects "GrowingDoorModel" ({ cls := "GrowingDoorModel", name := "lies", desc := "(I)I" } : Jvm.MethodName) ({ cls := "GrowingDoorModel", name := "lies", desc := "(I)I" } : Jvm.MethodName)) ∈ lw_all := lw_g (lw_at lw_m8 230 rfl) rfl
theorem q1996 : (Jvm.Cond.code ({ cls := "GrowingDoorModel", name := "lies", desc := "(I)I" } : Jvm.MethodName) prog_24_method_95_code (2 : Nat) (Option.some Jvm.ClassFile.FieldType.int)) ∈ lw_all := lw_g (lw_at lw_m8 231 rfl) rfl
theorem q1998 : (Jvm.Cond.instanceMethod ({ cls := "GrowingDoorModel", name := "swells", desc := "(I)I" } : Jvm.MethodName)) ∈ lw_all := lw_g (lw_at lw_m8 233 rfl) rfl
theorem q1999 : (Jvm.Cond.selects "GrowingDoorModel" ({ cls := "GrowingDoorModel", name := "swells", desc := "(I)I" } : Jvm.MethodName) ({ cls := "GrowingDoorModel", name := "swells", desc := "(I)I" } : Jvm.MethodName)) ∈ lw_all := lw_g (lw_at lw_m8 234 rfl) rfl
theorem q2000 : (Jvm.Cond.code ({ cls := "GrowingDoorModel", name := "swells", desc := "(I)I" } : Jvm.MethodName) prog_24_method_96_code (4 : Nat) (Option.some Jvm.ClassFile.FieldType.int)) ∈ lw_all := lw_g (lw_at lw_m8 235 rfl) rfl
theorem q2002 : (Jvm.Cond.instanceMethod ({ cls := "GrowingDoorModel", name := "heads", desc := "(I)I" } : Jvm.MethodName)) ∈ lw_all := lw_g (lw_at lw_m8 237 rfl) rfl
theorem q2003 : (Jvm.Cond.selects "GrowingDoorModel" ({ cls := "GrowingDoorModel", name := "heads", desc := "(I)I" } : Jvm.MethodName) ({ cls := "GrowingDoorModel", name := "heads", desc := "(I)I" } : Jvm.MethodName)) ∈ lw_all := lw_g (lw_at lw_m8 238 rfl) rfl
theorem q2004 : (Jvm.Cond.code ({ cls := "GrowingDoorModel", name := "heads", desc := "(I)I" } : Jvm.MethodName) prog_24_method_97_code (6 : Nat) (Option.some Jvm.ClassFile.FieldType.int)) ∈ lw_all := lw_g (lw_at lw_m8 239 rfl) rfl
theorem q2006 : (Jvm.Cond.instanceMethod ({ cls := "GrowingDoorModel", name := "driest", desc := "(I)I" } : Jvm.MethodName)) ∈ lw_all := lw_g (lw_at lw_m9 1 rfl) rfl
theorem q2007 : (Jvm.Cond.selects "GrowingDoorModel" ({ cls := "GrowingDoorModel", name := "driest", desc := "(I)I" } : Jvm.MethodName) ({ cls := "GrowingDoorModel", name := "driest", desc := "(I)I" } : Jvm.MethodName)) ∈ lw_all := lw_g (lw_at lw_m9 2 rfl) rfl
theorem q2008 : (Jvm.Cond.code ({ cls := "GrowingDoorModel", name := "driest", desc := "(I)I" } : Jvm.MethodName) prog_24_method_98_code (4 : Nat) (Option.some Jvm.ClassFile.FieldType.int)) ∈ lw_all := lw_g (lw_at lw_m9 3 rfl) rfl
theorem q2010 : (Jvm.Cond.instanceMethod ({ cls := "GrowingDoorModel", name := "decade", desc := "(IIII)I" } : Jvm.MethodName)) ∈ lw_all := lw_g (lw_at lw_m9 5 rfl) rfl
theorem q2011 : (Jvm.Cond.selects "GrowingDoorModel" ({ cls := "GrowingDoorModel", name := "decade", desc := "(IIII)I" } : Jvm.MethodName) ({ cls := "GrowingDoorModel", name := "decade", desc := "(IIII)I" } : Jvm.MethodName)) ∈ lw_all := lw_g (lw_at lw_m9 6 rfl) rfl
theorem q2012 : (Jvm.Cond.code ({ cls := "GrowingDoorModel", name := "decade", desc := "(IIII)I" } : Jvm.MethodName) prog_24_method_102_code (5 : Nat) (Option.some Jvm.ClassFile.FieldType.int)) ∈ lw_all := lw_g (lw_at lw_m9 7 rfl) rfl
theorem q2013 : (Jvm.Cond.methodLink "GrowingDoorModel" (442 : Nat) ({ cls := "GrowingDoorModel", name := "isDecade", desc := "(II)Z" } : Jvm.MethodName)) ∈ lw_all := lw_g (lw_at lw_m9 8 rfl) rfl
theorem q2014 : (Jvm.Cond.static ({ cls := "GrowingDoorModel", name := "isDecade", desc := "(II)Z" } : Jvm.MethodName)) ∈ lw_all := lw_g (lw_at lw_m9 9 rfl) rfl
theorem q2015 : (Jvm.Cond.code ({ cls := "GrowingDoorModel", name := "isDecade", desc := "(II)Z" } : Jvm.MethodName) prog_24_method_101_code (2 : Nat) (Option.some Jvm.ClassFile.FieldType.boolean)) ∈ lw_all := lw_g (lw_at lw_m9 10 rfl) rfl
theorem q2016 : (Jvm.Cond.methodLink "GrowingDoorModel" (445 : Nat) ({ cls := "GrowingDoorModel", name := "decadeGoes", desc := "(III)V" } : Jvm.MethodName)) ∈ lw_all := lw_g (lw_at lw_m9 11 rfl) rfl
theorem q2017 : (Jvm.Cond.privateMethod ({ cls := "GrowingDoorModel", name := "decadeGoes", desc := "(III)V" } : Jvm.MethodName)) ∈ lw_tbl := lw_at lw_m9 12 rfl
theorem q2018 : (Jvm.Cond.instanceMethod ({ cls := "GrowingDoorModel", name := "decadeGoes", desc := "(III)V" } : Jvm.MethodName)) ∈ lw_all := lw_g (lw_at lw_m9 13 rfl) rfl
theorem q2019 : (Jvm.Cond.code ({ cls := "GrowingDoorModel", name := "decadeGoes", desc := "(III)V" } : Jvm.MethodName) prog_24_method_100_code (6 : Nat) (Option.none : Option Jvm.ClassFile.FieldType)) ∈ lw_all := lw_g (lw_at lw_m9 14 rfl) rfl
theorem q2020 : (Jvm.Cond.methodLink "GrowingDoorModel" (439 : Nat) ({ cls := "GrowingDoorModel", name := "draws", desc := "(I)I" } : Jvm.MethodName)) ∈ lw_all := lw_g (lw_at lw_m9 15 rfl) rfl
theorem q2021 : (Jvm.Cond.privateMethod ({ cls := "GrowingDoorModel", name := "draws", desc := "(I)I" } : Jvm.MethodName)) ∈ lw_tbl := lw_at lw_m9 16 rfl
theorem q2022 : (Jvm.Cond.instanceMethod ({ cls := "GrowingDoorModel", name := "draws", desc := "(I)I" } : Jvm.MethodName)) ∈ lw_all := lw_g (lw_at lw_m9 17 rfl) rfl
theorem q2023 : (Jvm.Cond.code ({ cls := "GrowingDoorModel", name := "draws", desc := "(I)I" } : Jvm.MethodName) prog_24_method_99_code (2 : Nat) (Option.some Jvm.ClassFile.FieldType.int)) ∈ lw_all := lw_g (lw_at lw_m9 18 rfl) rfl
theorem q2024 : (Jvm.Cond.constant "GrowingDoorModel" (435 : Nat) (1103515245 : Int32)) ∈ lw_all := lw_g (lw_at lw_m9 19 rfl) rfl
theorem q2026 : (Jvm.Cond.instanceMethod ({ cls := "GrowingDoorModel", name := "span", desc := "(IIIIII)I" } : Jvm.MethodName)) ∈ lw_all := lw_g (lw_at lw_m9 21 rfl) rfl
theorem q2027 : (Jvm.Cond.selects "GrowingDoorModel" ({ cls := "GrowingDoorModel", name := "span", desc := "(IIIIII)I" } : Jvm.MethodName) ({ cls := "GrowingDoorModel", name := "span", desc := "(IIIIII)I" } : Jvm.MethodName)) ∈ lw_all := lw_g (lw_at lw_m9 22 rfl) rfl
theorem q2028 : (Jvm.Cond.code ({ cls := "GrowingDoorModel", name := "span", desc := "(IIIIII)I" } : Jvm.MethodName) prog_24_method_103_code (12 : Nat) (Option.some Jvm.ClassFile.FieldType.int)) ∈ lw_all := lw_g (lw_at lw_m9 23 rfl) rfl
theorem q2030 : (Jvm.Cond.instanceMethod ({ cls := "GrowingDoorModel", name := "image", desc := "()I" } : Jvm.MethodName)) ∈ lw_all := lw_g (lw_at lw_m9 25 rfl) rfl
theorem q2031 : (Jvm.Cond.selects "GrowingDoorModel" ({ cls := "GrowingDoorModel", name := "image", desc := "()I" } : Jvm.MethodName) ({ cls := "GrowingDoorModel", name := "image", desc := "()I" } : Jvm.MethodName)) ∈ lw_all := lw_g (lw_at lw_m9 26 rfl) rfl
theorem q2032 : (Jvm.Cond.code ({ cls := "GrowingDoorModel", name := "image", desc := "()I" } : Jvm.MethodName) prog_24_method_106_code (1 : Nat) (Option.some Jvm.ClassFile.FieldType.int)) ∈ lw_all := lw_g (lw_at lw_m9 27 rfl) rfl
theorem q2033 : (Jvm.Cond.methodLink "GrowingDoorModel" (452 : Nat) ({ cls := "GrowingDoorModel", name := "keepsAll", desc := "(IZ)V" } : Jvm.MethodName)) ∈ lw_all := lw_g (lw_at lw_m9 28 rfl) rfl
theorem q2034 : (Jvm.Cond.privateMethod ({ cls := "GrowingDoorModel", name := "keepsAll", desc := "(IZ)V" } : Jvm.MethodName)) ∈ lw_tbl := lw_at lw_m9 29 rfl
theorem q2035 : (Jvm.Cond.instanceMethod ({ cls := "GrowingDoorModel", name := "keepsAll", desc := "(IZ)V" } : Jvm.MethodName)) ∈ lw_all := lw_g (lw_at lw_m9 30 rfl) rfl
theorem q2036 : (Jvm.Cond.code ({ cls := "GrowingDoorModel", name := "keepsAll", desc := "(IZ)V" } : Jvm.MethodName) prog_24_method_105_code (4 : Nat) (Option.none : Option Jvm.ClassFile.FieldType)) ∈ lw_all := lw_g (lw_at lw_m9 31 rfl) rfl
theorem q2037 : (Jvm.Cond.methodLink "GrowingDoorModel" (448 : Nat) ({ cls := "GrowingDoorModel", name := "keepsRow", desc := "(I[IIZ)I" } : Jvm.MethodName)) ∈ lw_all := lw_g (lw_at lw_m9 32 rfl) rfl
theorem q2038 : (Jvm.Cond.privateMethod ({ cls := "GrowingDoorModel", name := "keepsRow", desc := "(I[IIZ)I" } : Jvm.MethodName)) ∈ lw_tbl := lw_at lw_m9 33 rfl
theorem q2039 : (Jvm.Cond.instanceMethod ({ cls := "GrowingDoorModel", name := "keepsRow", desc := "(I[IIZ)I" } : Jvm.MethodName)) ∈ lw_all := lw_g (lw_at lw_m9 34 rfl) rfl
theorem q2040 : (Jvm.Cond.code ({ cls := "GrowingDoorModel", name := "keepsRow", desc := "(I[IIZ)I" } : Jvm.MethodName) prog_24_method_104_code (6 : Nat) (Option.some Jvm.ClassFile.FieldType.int)) ∈ lw_all := lw_g (lw_at lw_m9 35 rfl) rfl
theorem q2042 : (Jvm.Cond.instanceMethod ({ cls := "GrowingDoorModel", name := "restore", desc := "()I" } : Jvm.MethodName)) ∈ lw_all := lw_g (lw_at lw_m9 37 rfl) rfl
theorem q2043 : (Jvm.Cond.selects "GrowingDoorModel" ({ cls := "GrowingDoorModel", name := "restore", desc := "()I" } : Jvm.MethodName) ({ cls := "GrowingDoorModel", name := "restore", desc := "()I" } : Jvm.MethodName)) ∈ lw_all := lw_g (lw_at lw_m9 38 rfl) rfl
theorem q2044 : (Jvm.Cond.code ({ cls := "GrowingDoorModel", name := "restore", desc := "()I" } : Jvm.MethodName) prog_24_method_107_code (1 : Nat) (Option.some Jvm.ClassFile.FieldType.int)) ∈ lw_all := lw_g (lw_at lw_m9 39 rfl) rfl
theorem q2046 : (Jvm.Cond.instanceMethod ({ cls := "GrowingDoorModel", name := "status", desc := "(I)I" } : Jvm.MethodName)) ∈ lw_all := lw_g (lw_at lw_m9 41 rfl) rfl
theorem q2047 : (Jvm.Cond.selects "GrowingDoorModel" ({ cls := "GrowingDoorModel", name := "status", desc := "(I)I" } : Jvm.MethodName) ({ cls := "GrowingDoorModel", name := "status", desc := "(I)I" } : Jvm.MethodName)) ∈ lw_all := lw_g (lw_at lw_m9 42 rfl) rfl
theorem q2048 : (Jvm.Cond.code ({ cls := "GrowingDoorModel", name := "status", desc := "(I)I" } : Jvm.MethodName) prog_24_method_108_code (2 : Nat) (Option.some Jvm.ClassFile.FieldType.int)) ∈ lw_all := lw_g (lw_at lw_m9 43 rfl) rfl
theorem q2050 : (Jvm.Cond.instanceMethod ({ cls := "GrowingDoorModel", name := "count", desc := "(I)I" } : Jvm.MethodName)) ∈ lw_all := lw_g (lw_at lw_m9 45 rfl) rfl
theorem q2051 : (Jvm.Cond.selects "GrowingDoorModel" ({ cls := "GrowingDoorModel", name := "count", desc := "(I)I" } : Jvm.MethodName) ({ cls := "GrowingDoorModel", name := "count", desc := "(I)I" } : Jvm.MethodName)) ∈ lw_all := lw_g (lw_at lw_m9 46 rfl) rfl
theorem q2052 : (Jvm.Cond.code ({ cls := "GrowingDoorModel", name := "count", desc := "(I)I" } : Jvm.MethodName) prog_24_method_109_code (2 : Nat) (Option.some Jvm.ClassFile.FieldType.int)) ∈ lw_all := lw_g (lw_at lw_m9 47 rfl) rfl
theorem q2061 : (Jvm.Cond.castable "GrowingDoorModel" "java/lang/Object") ∈ lw_tbl := lw_at lw_m9 56 rfl
theorem in_X8 : ∀ w ∈ wsX80, w ∈ lw_all := lw_in wsX80 [1511, 1513, 1515, 1517, 1519, 1521, 1523, 1525, 1527, 1529, 1531, 1533, 1535, 1537, 1539, 1541, 1543, 1545, 1547, 1549, 1551, 1553, 1555, 1557, 1559, 1561, 1563, 1565, 1567, 1569, 1571, 1573, 1575, 1577, 1579, 1581, 1583, 1585, 1587, 1589, 1591, 1593, 1595, 1597, 1599, 1601, 1603, 1605, 1607, 1609, 1611, 1613, 1615, 1617, 1619, 1621, 1623] (by decide +kernel) (by decide +kernel)

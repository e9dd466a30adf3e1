/-! GrowingDoor -/
set_option maxRecDepth 100000
def RX1 : String := "GrowingDoor"
def TX1 : u_T := fun k => match k with
  | 0 => ("GrowingDoor", "tape", "[B", true)
  | 1 => ("GrowingDoor", "law", "LGrowingDoor$Law;", true)
  | 2 => ("GrowingDoor", "as", "LGrowingDoor$Kept;", true)
  | 3 => ("GrowingDoor", "images", "[LGrowingDoor$Kept;", true)
  | 4 => ("GrowingDoor", "trial", "LGrowingDoor$State;", true)
  | 5 => ("GrowingDoor", "mating", "LGrowingDoor$Mates;", true)
  | 6 => ("GrowingDoor", "sight", "LGrowingDoor$Sight;", true)
  | 7 => ("GrowingDoor", "refused", "[I", true)
  | 8 => ("GrowingDoor", "bookMonth", "[I", true)
  | 9 => ("GrowingDoor", "bookHigh", "[I", true)
  | 10 => ("GrowingDoor", "grown", "[I", true)
  | 11 => ("GrowingDoor", "seen", "[I", true)
  | 12 => ("GrowingDoor", "follows", "[I", true)
  | 13 => ("GrowingDoor", "rungs", "[I", true)
  | 14 => ("GrowingDoor", "level", "[J", true)
  | 15 => ("GrowingDoor", "school", "LGrowingDoor$School;", false)
  | 16 => ("GrowingDoor", "fed", "I", false)
  | 17 => ("GrowingDoor", "place", "I", false)
  | 18 => ("GrowingDoor", "lines", "I", false)
  | 19 => ("GrowingDoor", "refusedSteps", "I", false)
  | 20 => ("GrowingDoor", "kept", "I", false)
  | 21 => ("GrowingDoor", "lots", "I", false)
  | _ => ("GrowingDoor", "cuts", "I", false)
def tyX1 : Nat → FieldType := fun k => match k with
  | 0 => .array .byte
  | 1 => .object "GrowingDoor$Law"
  | 2 => .object "GrowingDoor$Kept"
  | 3 => .array (.object "GrowingDoor$Kept")
  | 4 => .object "GrowingDoor$State"
  | 5 => .object "GrowingDoor$Mates"
  | 6 => .object "GrowingDoor$Sight"
  | 7 => .array .int
  | 8 => .array .int
  | 9 => .array .int
  | 10 => .array .int
  | 11 => .array .int
  | 12 => .array .int
  | 13 => .array .int
  | 14 => .array .long
  | 15 => .object "GrowingDoor$School"
  | 16 => .int
  | 17 => .int
  | 18 => .int
  | 19 => .int
  | 20 => .int
  | 21 => .int
  | _ => .int
abbrev wsX10 : List Cond := u_ws RX1 TX1 23
set_option maxRecDepth 100000 in
theorem nmX1 : ∀ a, a < 23 → ∀ b, b < 23 → a ≠ b → (TX1 a).2.1 ≠ (TX1 b).2.1 := by decide +kernel
set_option maxRecDepth 100000 in
theorem tyX1_ok : ∀ k, k < 23 → parseFieldDescriptor (TX1 k).2.2.1 = some (tyX1 k) := by decide +kernel
abbrev cX1_init : ByteArray := prog_1_method_1_code
def yX1_init : MethodName := ⟨RX1, "<init>", "()V"⟩
def dkwX1_init_9 : List UInt8 := [42, 180, 0, 25, 182, 0, 91, 42, 180, 0, 83, 182, 0, 95, 177]
abbrev dktX1_init_9 : List UInt8 := dkwX1_init_9 ++ []
def dkwX1_init_8 : List UInt8 := [42, 16, 13, 188, 11, 181, 0, 76, 42, 187, 0, 80, 89, 183, 0, 82, 181, 0, 83, 42, 2, 181, 0, 87]
abbrev dktX1_init_8 : List UInt8 := dkwX1_init_8 ++ dktX1_init_9
def dkwX1_init_7 : List UInt8 := [17, 3, 232, 188, 10, 181, 0, 67, 42, 16, 7, 188, 10, 181, 0, 70, 42, 16, 7, 188, 10, 181, 0, 73]
abbrev dktX1_init_7 : List UInt8 := dkwX1_init_7 ++ dktX1_init_8
def dkwX1_init_6 : List UInt8 := [188, 10, 181, 0, 58, 42, 16, 6, 188, 10, 181, 0, 61, 42, 16, 13, 188, 10, 181, 0, 64, 42]
abbrev dktX1_init_6 : List UInt8 := dkwX1_init_6 ++ dktX1_init_7
def dkwX1_init_5 : List UInt8 := [181, 0, 43, 42, 187, 0, 47, 89, 183, 0, 49, 181, 0, 50, 42, 5, 188, 10, 181, 0, 54, 42, 16, 6]
abbrev dktX1_init_5 : List UInt8 := dkwX1_init_5 ++ dktX1_init_6
def dkwX1_init_4 : List UInt8 := [187, 0, 33, 89, 42, 180, 0, 16, 183, 0, 35, 181, 0, 36, 42, 187, 0, 40, 89, 183, 0, 42]
abbrev dktX1_init_4 : List UInt8 := dkwX1_init_4 ++ dktX1_init_5
def dkwX1_init_3 : List UInt8 := [183, 0, 22, 83, 89, 5, 187, 0, 20, 89, 42, 180, 0, 16, 183, 0, 22, 83, 181, 0, 29, 42]
abbrev dktX1_init_3 : List UInt8 := dkwX1_init_3 ++ dktX1_init_4
def dkwX1_init_2 : List UInt8 := [187, 0, 20, 89, 42, 180, 0, 16, 183, 0, 22, 83, 89, 4, 187, 0, 20, 89, 42, 180, 0, 16]
abbrev dktX1_init_2 : List UInt8 := dkwX1_init_2 ++ dktX1_init_3
def dkwX1_init_1 : List UInt8 := [42, 187, 0, 20, 89, 42, 180, 0, 16, 183, 0, 22, 181, 0, 25, 42, 6, 189, 0, 20, 89, 3]
abbrev dktX1_init_1 : List UInt8 := dkwX1_init_1 ++ dktX1_init_2
def dkwX1_init_0 : List UInt8 := [42, 183, 0, 1, 42, 17, 2, 88, 188, 8, 181, 0, 9, 42, 187, 0, 13, 89, 183, 0, 15, 181, 0, 16]
abbrev dktX1_init_0 : List UInt8 := dkwX1_init_0 ++ dktX1_init_1
theorem dksX1_init_0 : cX1_init.data.toList.drop 0 = dktX1_init_0 := by decide +kernel
theorem dksX1_init_1 : cX1_init.data.toList.drop 24 = dktX1_init_1 := dk_seg dksX1_init_0 24 rfl rfl
theorem dksX1_init_2 : cX1_init.data.toList.drop 46 = dktX1_init_2 := dk_seg dksX1_init_1 22 rfl rfl
theorem dksX1_init_3 : cX1_init.data.toList.drop 68 = dktX1_init_3 := dk_seg dksX1_init_2 22 rfl rfl
theorem dksX1_init_4 : cX1_init.data.toList.drop 90 = dktX1_init_4 := dk_seg dksX1_init_3 22 rfl rfl
theorem dksX1_init_5 : cX1_init.data.toList.drop 112 = dktX1_init_5 := dk_seg dksX1_init_4 22 rfl rfl
theorem dksX1_init_6 : cX1_init.data.toList.drop 136 = dktX1_init_6 := dk_seg dksX1_init_5 24 rfl rfl
theorem dksX1_init_7 : cX1_init.data.toList.drop 158 = dktX1_init_7 := dk_seg dksX1_init_6 22 rfl rfl
theorem dksX1_init_8 : cX1_init.data.toList.drop 182 = dktX1_init_8 := dk_seg dksX1_init_7 24 rfl rfl
theorem dksX1_init_9 : cX1_init.data.toList.drop 206 = dktX1_init_9 := dk_seg dksX1_init_8 24 rfl rfl
theorem dX1_init_0 : decode cX1_init 0 = .ok (.aload_n 0, 1) := dk_42 (dk_at dksX1_init_0 0 rfl rfl)
theorem dX1_init_1 : decode cX1_init 1 = .ok (.invokespecial 1, 3) := dk_183 0 1 (dk_at dksX1_init_0 1 rfl rfl)
theorem dX1_init_4 : decode cX1_init 4 = .ok (.aload_n 0, 1) := dk_42 (dk_at dksX1_init_0 4 rfl rfl)
theorem dX1_init_5 : decode cX1_init 5 = .ok (.sipush 600, 3) := dk_17 2 88 (dk_at dksX1_init_0 5 rfl rfl)
theorem dX1_init_8 : decode cX1_init 8 = .ok (.newarray .byte, 2) := dk_188_8 (dk_at dksX1_init_0 8 rfl rfl)
theorem dX1_init_10 : decode cX1_init 10 = .ok (.putfield 9, 3) := dk_181 0 9 (dk_at dksX1_init_0 10 rfl rfl)
theorem dX1_init_13 : decode cX1_init 13 = .ok (.aload_n 0, 1) := dk_42 (dk_at dksX1_init_0 13 rfl rfl)
theorem dX1_init_14 : decode cX1_init 14 = .ok (.new 13, 3) := dk_187 0 13 (dk_at dksX1_init_0 14 rfl rfl)
theorem dX1_init_17 : decode cX1_init 17 = .ok (.dup, 1) := dk_89 (dk_at dksX1_init_0 17 rfl rfl)
theorem dX1_init_18 : decode cX1_init 18 = .ok (.invokespecial 15, 3) := dk_183 0 15 (dk_at dksX1_init_0 18 rfl rfl)
theorem dX1_init_21 : decode cX1_init 21 = .ok (.putfield 16, 3) := dk_181 0 16 (dk_at dksX1_init_0 21 rfl rfl)
theorem dX1_init_24 : decode cX1_init 24 = .ok (.aload_n 0, 1) := dk_42 (dk_at dksX1_init_1 0 rfl rfl)
theorem dX1_init_25 : decode cX1_init 25 = .ok (.new 20, 3) := dk_187 0 20 (dk_at dksX1_init_1 1 rfl rfl)
theorem dX1_init_28 : decode cX1_init 28 = .ok (.dup, 1) := dk_89 (dk_at dksX1_init_1 4 rfl rfl)
theorem dX1_init_29 : decode cX1_init 29 = .ok (.aload_n 0, 1) := dk_42 (dk_at dksX1_init_1 5 rfl rfl)
theorem dX1_init_30 : decode cX1_init 30 = .ok (.getfield 16, 3) := dk_180 0 16 (dk_at dksX1_init_1 6 rfl rfl)
theorem dX1_init_33 : decode cX1_init 33 = .ok (.invokespecial 22, 3) := dk_183 0 22 (dk_at dksX1_init_1 9 rfl rfl)
theorem dX1_init_36 : decode cX1_init 36 = .ok (.putfield 25, 3) := dk_181 0 25 (dk_at dksX1_init_1 12 rfl rfl)
theorem dX1_init_39 : decode cX1_init 39 = .ok (.aload_n 0, 1) := dk_42 (dk_at dksX1_init_1 15 rfl rfl)
theorem dX1_init_40 : decode cX1_init 40 = .ok (.iconst 3, 1) := dk_6 (dk_at dksX1_init_1 16 rfl rfl)
theorem dX1_init_41 : decode cX1_init 41 = .ok (.anewarray 20, 3) := dk_189 0 20 (dk_at dksX1_init_1 17 rfl rfl)
theorem dX1_init_44 : decode cX1_init 44 = .ok (.dup, 1) := dk_89 (dk_at dksX1_init_1 20 rfl rfl)
theorem dX1_init_45 : decode cX1_init 45 = .ok (.iconst 0, 1) := dk_3 (dk_at dksX1_init_1 21 rfl rfl)
theorem dX1_init_46 : decode cX1_init 46 = .ok (.new 20, 3) := dk_187 0 20 (dk_at dksX1_init_2 0 rfl rfl)
theorem dX1_init_49 : decode cX1_init 49 = .ok (.dup, 1) := dk_89 (dk_at dksX1_init_2 3 rfl rfl)
theorem dX1_init_50 : decode cX1_init 50 = .ok (.aload_n 0, 1) := dk_42 (dk_at dksX1_init_2 4 rfl rfl)
theorem dX1_init_51 : decode cX1_init 51 = .ok (.getfield 16, 3) := dk_180 0 16 (dk_at dksX1_init_2 5 rfl rfl)
theorem dX1_init_54 : decode cX1_init 54 = .ok (.invokespecial 22, 3) := dk_183 0 22 (dk_at dksX1_init_2 8 rfl rfl)
theorem dX1_init_57 : decode cX1_init 57 = .ok (.aastore, 1) := dk_83 (dk_at dksX1_init_2 11 rfl rfl)
theorem dX1_init_58 : decode cX1_init 58 = .ok (.dup, 1) := dk_89 (dk_at dksX1_init_2 12 rfl rfl)
theorem dX1_init_59 : decode cX1_init 59 = .ok (.iconst 1, 1) := dk_4 (dk_at dksX1_init_2 13 rfl rfl)
theorem dX1_init_60 : decode cX1_init 60 = .ok (.new 20, 3) := dk_187 0 20 (dk_at dksX1_init_2 14 rfl rfl)
theorem dX1_init_63 : decode cX1_init 63 = .ok (.dup, 1) := dk_89 (dk_at dksX1_init_2 17 rfl rfl)
theorem dX1_init_64 : decode cX1_init 64 = .ok (.aload_n 0, 1) := dk_42 (dk_at dksX1_init_2 18 rfl rfl)
theorem dX1_init_65 : decode cX1_init 65 = .ok (.getfield 16, 3) := dk_180 0 16 (dk_at dksX1_init_2 19 rfl rfl)
theorem dX1_init_68 : decode cX1_init 68 = .ok (.invokespecial 22, 3) := dk_183 0 22 (dk_at dksX1_init_3 0 rfl rfl)
theorem dX1_init_71 : decode cX1_init 71 = .ok (.aastore, 1) := dk_83 (dk_at dksX1_init_3 3 rfl rfl)
theorem dX1_init_72 : decode cX1_init 72 = .ok (.dup, 1) := dk_89 (dk_at dksX1_init_3 4 rfl rfl)
theorem dX1_init_73 : decode cX1_init 73 = .ok (.iconst 2, 1) := dk_5 (dk_at dksX1_init_3 5 rfl rfl)
theorem dX1_init_74 : decode cX1_init 74 = .ok (.new 20, 3) := dk_187 0 20 (dk_at dksX1_init_3 6 rfl rfl)
theorem dX1_init_77 : decode cX1_init 77 = .ok (.dup, 1) := dk_89 (dk_at dksX1_init_3 9 rfl rfl)
theorem dX1_init_78 : decode cX1_init 78 = .ok (.aload_n 0, 1) := dk_42 (dk_at dksX1_init_3 10 rfl rfl)
theorem dX1_init_79 : decode cX1_init 79 = .ok (.getfield 16, 3) := dk_180 0 16 (dk_at dksX1_init_3 11 rfl rfl)
theorem dX1_init_82 : decode cX1_init 82 = .ok (.invokespecial 22, 3) := dk_183 0 22 (dk_at dksX1_init_3 14 rfl rfl)
theorem dX1_init_85 : decode cX1_init 85 = .ok (.aastore, 1) := dk_83 (dk_at dksX1_init_3 17 rfl rfl)
theorem dX1_init_86 : decode cX1_init 86 = .ok (.putfield 29, 3) := dk_181 0 29 (dk_at dksX1_init_3 18 rfl rfl)
theorem dX1_init_89 : decode cX1_init 89 = .ok (.aload_n 0, 1) := dk_42 (dk_at dksX1_init_3 21 rfl rfl)
theorem dX1_init_90 : decode cX1_init 90 = .ok (.new 33, 3) := dk_187 0 33 (dk_at dksX1_init_4 0 rfl rfl)
theorem dX1_init_93 : decode cX1_init 93 = .ok (.dup, 1) := dk_89 (dk_at dksX1_init_4 3 rfl rfl)
theorem dX1_init_94 : decode cX1_init 94 = .ok (.aload_n 0, 1) := dk_42 (dk_at dksX1_init_4 4 rfl rfl)
theorem dX1_init_95 : decode cX1_init 95 = .ok (.getfield 16, 3) := dk_180 0 16 (dk_at dksX1_init_4 5 rfl rfl)
theorem dX1_init_98 : decode cX1_init 98 = .ok (.invokespecial 35, 3) := dk_183 0 35 (dk_at dksX1_init_4 8 rfl rfl)
theorem dX1_init_101 : decode cX1_init 101 = .ok (.putfield 36, 3) := dk_181 0 36 (dk_at dksX1_init_4 11 rfl rfl)
theorem dX1_init_104 : decode cX1_init 104 = .ok (.aload_n 0, 1) := dk_42 (dk_at dksX1_init_4 14 rfl rfl)
theorem dX1_init_105 : decode cX1_init 105 = .ok (.new 40, 3) := dk_187 0 40 (dk_at dksX1_init_4 15 rfl rfl)
theorem dX1_init_108 : decode cX1_init 108 = .ok (.dup, 1) := dk_89 (dk_at dksX1_init_4 18 rfl rfl)
theorem dX1_init_109 : decode cX1_init 109 = .ok (.invokespecial 42, 3) := dk_183 0 42 (dk_at dksX1_init_4 19 rfl rfl)
theorem dX1_init_112 : decode cX1_init 112 = .ok (.putfield 43, 3) := dk_181 0 43 (dk_at dksX1_init_5 0 rfl rfl)
theorem dX1_init_115 : decode cX1_init 115 = .ok (.aload_n 0, 1) := dk_42 (dk_at dksX1_init_5 3 rfl rfl)
theorem dX1_init_116 : decode cX1_init 116 = .ok (.new 47, 3) := dk_187 0 47 (dk_at dksX1_init_5 4 rfl rfl)
theorem dX1_init_119 : decode cX1_init 119 = .ok (.dup, 1) := dk_89 (dk_at dksX1_init_5 7 rfl rfl)
theorem dX1_init_120 : decode cX1_init 120 = .ok (.invokespecial 49, 3) := dk_183 0 49 (dk_at dksX1_init_5 8 rfl rfl)
theorem dX1_init_123 : decode cX1_init 123 = .ok (.putfield 50, 3) := dk_181 0 50 (dk_at dksX1_init_5 11 rfl rfl)
theorem dX1_init_126 : decode cX1_init 126 = .ok (.aload_n 0, 1) := dk_42 (dk_at dksX1_init_5 14 rfl rfl)
theorem dX1_init_127 : decode cX1_init 127 = .ok (.iconst 2, 1) := dk_5 (dk_at dksX1_init_5 15 rfl rfl)
theorem dX1_init_128 : decode cX1_init 128 = .ok (.newarray .int, 2) := dk_188_10 (dk_at dksX1_init_5 16 rfl rfl)
theorem dX1_init_130 : decode cX1_init 130 = .ok (.putfield 54, 3) := dk_181 0 54 (dk_at dksX1_init_5 18 rfl rfl)
theorem dX1_init_133 : decode cX1_init 133 = .ok (.aload_n 0, 1) := dk_42 (dk_at dksX1_init_5 21 rfl rfl)
theorem dX1_init_134 : decode cX1_init 134 = .ok (.bipush 6, 2) := dk_16 6 (dk_at dksX1_init_5 22 rfl rfl)
theorem dX1_init_136 : decode cX1_init 136 = .ok (.newarray .int, 2) := dk_188_10 (dk_at dksX1_init_6 0 rfl rfl)
theorem dX1_init_138 : decode cX1_init 138 = .ok (.putfield 58, 3) := dk_181 0 58 (dk_at dksX1_init_6 2 rfl rfl)
theorem dX1_init_141 : decode cX1_init 141 = .ok (.aload_n 0, 1) := dk_42 (dk_at dksX1_init_6 5 rfl rfl)
theorem dX1_init_142 : decode cX1_init 142 = .ok (.bipush 6, 2) := dk_16 6 (dk_at dksX1_init_6 6 rfl rfl)
theorem dX1_init_144 : decode cX1_init 144 = .ok (.newarray .int, 2) := dk_188_10 (dk_at dksX1_init_6 8 rfl rfl)
theorem dX1_init_146 : decode cX1_init 146 = .ok (.putfield 61, 3) := dk_181 0 61 (dk_at dksX1_init_6 10 rfl rfl)
theorem dX1_init_149 : decode cX1_init 149 = .ok (.aload_n 0, 1) := dk_42 (dk_at dksX1_init_6 13 rfl rfl)
theorem dX1_init_150 : decode cX1_init 150 = .ok (.bipush 13, 2) := dk_16 13 (dk_at dksX1_init_6 14 rfl rfl)
theorem dX1_init_152 : decode cX1_init 152 = .ok (.newarray .int, 2) := dk_188_10 (dk_at dksX1_init_6 16 rfl rfl)
theorem dX1_init_154 : decode cX1_init 154 = .ok (.putfield 64, 3) := dk_181 0 64 (dk_at dksX1_init_6 18 rfl rfl)
theorem dX1_init_157 : decode cX1_init 157 = .ok (.aload_n 0, 1) := dk_42 (dk_at dksX1_init_6 21 rfl rfl)
theorem dX1_init_158 : decode cX1_init 158 = .ok (.sipush 1000, 3) := dk_17 3 232 (dk_at dksX1_init_7 0 rfl rfl)
theorem dX1_init_161 : decode cX1_init 161 = .ok (.newarray .int, 2) := dk_188_10 (dk_at dksX1_init_7 3 rfl rfl)
theorem dX1_init_163 : decode cX1_init 163 = .ok (.putfield 67, 3) := dk_181 0 67 (dk_at dksX1_init_7 5 rfl rfl)
theorem dX1_init_166 : decode cX1_init 166 = .ok (.aload_n 0, 1) := dk_42 (dk_at dksX1_init_7 8 rfl rfl)
theorem dX1_init_167 : decode cX1_init 167 = .ok (.bipush 7, 2) := dk_16 7 (dk_at dksX1_init_7 9 rfl rfl)
theorem dX1_init_169 : decode cX1_init 169 = .ok (.newarray .int, 2) := dk_188_10 (dk_at dksX1_init_7 11 rfl rfl)
theorem dX1_init_171 : decode cX1_init 171 = .ok (.putfield 70, 3) := dk_181 0 70 (dk_at dksX1_init_7 13 rfl rfl)
theorem dX1_init_174 : decode cX1_init 174 = .ok (.aload_n 0, 1) := dk_42 (dk_at dksX1_init_7 16 rfl rfl)
theorem dX1_init_175 : decode cX1_init 175 = .ok (.bipush 7, 2) := dk_16 7 (dk_at dksX1_init_7 17 rfl rfl)
theorem dX1_init_177 : decode cX1_init 177 = .ok (.newarray .int, 2) := dk_188_10 (dk_at dksX1_init_7 19 rfl rfl)
theorem dX1_init_179 : decode cX1_init 179 = .ok (.putfield 73, 3) := dk_181 0 73 (dk_at dksX1_init_7 21 rfl rfl)
theorem dX1_init_182 : decode cX1_init 182 = .ok (.aload_n 0, 1) := dk_42 (dk_at dksX1_init_8 0 rfl rfl)
theorem dX1_init_183 : decode cX1_init 183 = .ok (.bipush 13, 2) := dk_16 13 (dk_at dksX1_init_8 1 rfl rfl)
theorem dX1_init_185 : decode cX1_init 185 = .ok (.newarray .long, 2) := dk_188_11 (dk_at dksX1_init_8 3 rfl rfl)
theorem dX1_init_187 : decode cX1_init 187 = .ok (.putfield 76, 3) := dk_181 0 76 (dk_at dksX1_init_8 5 rfl rfl)
theorem dX1_init_190 : decode cX1_init 190 = .ok (.aload_n 0, 1) := dk_42 (dk_at dksX1_init_8 8 rfl rfl)
theorem dX1_init_191 : decode cX1_init 191 = .ok (.new 80, 3) := dk_187 0 80 (dk_at dksX1_init_8 9 rfl rfl)
theorem dX1_init_194 : decode cX1_init 194 = .ok (.dup, 1) := dk_89 (dk_at dksX1_init_8 12 rfl rfl)
theorem dX1_init_195 : decode cX1_init 195 = .ok (.invokespecial 82, 3) := dk_183 0 82 (dk_at dksX1_init_8 13 rfl rfl)
theorem dX1_init_198 : decode cX1_init 198 = .ok (.putfield 83, 3) := dk_181 0 83 (dk_at dksX1_init_8 16 rfl rfl)
theorem dX1_init_201 : decode cX1_init 201 = .ok (.aload_n 0, 1) := dk_42 (dk_at dksX1_init_8 19 rfl rfl)
theorem dX1_init_202 : decode cX1_init 202 = .ok (.iconst (-1), 1) := dk_2 (dk_at dksX1_init_8 20 rfl rfl)
theorem dX1_init_203 : decode cX1_init 203 = .ok (.putfield 87, 3) := dk_181 0 87 (dk_at dksX1_init_8 21 rfl rfl)
theorem dX1_init_206 : decode cX1_init 206 = .ok (.aload_n 0, 1) := dk_42 (dk_at dksX1_init_9 0 rfl rfl)
theorem dX1_init_207 : decode cX1_init 207 = .ok (.getfield 25, 3) := dk_180 0 25 (dk_at dksX1_init_9 1 rfl rfl)
theorem dX1_init_210 : decode cX1_init 210 = .ok (.invokevirtual 91, 3) := dk_182 0 91 (dk_at dksX1_init_9 4 rfl rfl)
theorem dX1_init_213 : decode cX1_init 213 = .ok (.aload_n 0, 1) := dk_42 (dk_at dksX1_init_9 7 rfl rfl)
theorem dX1_init_214 : decode cX1_init 214 = .ok (.getfield 83, 3) := dk_180 0 83 (dk_at dksX1_init_9 8 rfl rfl)
theorem dX1_init_217 : decode cX1_init 217 = .ok (.invokevirtual 95, 3) := dk_182 0 95 (dk_at dksX1_init_9 11 rfl rfl)
theorem dX1_init_220 : decode cX1_init 220 = .ok (.return_, 1) := dk_177 (dk_at dksX1_init_9 14 rfl rfl)
abbrev cX1_feed : ByteArray := prog_1_method_6_code
def yX1_feed : MethodName := ⟨RX1, "feed", "(IIIII)I"⟩
def dkwX1_feed_4 : List UInt8 := [180, 0, 115, 172]
abbrev dktX1_feed_4 : List UInt8 := dkwX1_feed_4 ++ []
def dkwX1_feed_3 : List UInt8 := [7, 108, 46, 16, 24, 16, 8, 21, 7, 7, 112, 104, 100, 122, 145, 84, 132, 7, 1, 167, 255, 211, 42]
abbrev dktX1_feed_3 : List UInt8 := dkwX1_feed_3 ++ dktX1_feed_4
def dkwX1_feed_2 : List UInt8 := [16, 20, 162, 0, 44, 42, 180, 0, 9, 42, 89, 180, 0, 115, 90, 4, 96, 181, 0, 115, 25, 6, 21, 7]
abbrev dktX1_feed_2 : List UInt8 := dkwX1_feed_2 ++ dktX1_feed_3
def dkwX1_feed_1 : List UInt8 := [28, 79, 89, 5, 29, 79, 89, 6, 21, 4, 79, 89, 7, 21, 5, 79, 58, 6, 3, 54, 7, 21, 7]
abbrev dktX1_feed_1 : List UInt8 := dkwX1_feed_1 ++ dktX1_feed_2
def dkwX1_feed_0 : List UInt8 := [42, 180, 0, 115, 16, 20, 96, 17, 2, 88, 164, 0, 5, 2, 172, 8, 188, 10, 89, 3, 27, 79, 89, 4]
abbrev dktX1_feed_0 : List UInt8 := dkwX1_feed_0 ++ dktX1_feed_1
theorem dksX1_feed_0 : cX1_feed.data.toList.drop 0 = dktX1_feed_0 := by decide +kernel
theorem dksX1_feed_1 : cX1_feed.data.toList.drop 24 = dktX1_feed_1 := dk_seg dksX1_feed_0 24 rfl rfl
theorem dksX1_feed_2 : cX1_feed.data.toList.drop 47 = dktX1_feed_2 := dk_seg dksX1_feed_1 23 rfl rfl
theorem dksX1_feed_3 : cX1_feed.data.toList.drop 71 = dktX1_feed_3 := dk_seg dksX1_feed_2 24 rfl rfl
theorem dksX1_feed_4 : cX1_feed.data.toList.drop 94 = dktX1_feed_4 := dk_seg dksX1_feed_3 23 rfl rfl
theorem dX1_feed_0 : decode cX1_feed 0 = .ok (.aload_n 0, 1) := dk_42 (dk_at dksX1_feed_0 0 rfl rfl)
theorem dX1_feed_1 : decode cX1_feed 1 = .ok (.getfield 115, 3) := dk_180 0 115 (dk_at dksX1_feed_0 1 rfl rfl)
theorem dX1_feed_4 : decode cX1_feed 4 = .ok (.bipush 20, 2) := dk_16 20 (dk_at dksX1_feed_0 4 rfl rfl)
theorem dX1_feed_6 : decode cX1_feed 6 = .ok (.iadd, 1) := dk_96 (dk_at dksX1_feed_0 6 rfl rfl)
theorem dX1_feed_7 : decode cX1_feed 7 = .ok (.sipush 600, 3) := dk_17 2 88 (dk_at dksX1_feed_0 7 rfl rfl)
theorem dX1_feed_10 : decode cX1_feed 10 = .ok (.if_icmp .le 5, 3) := dk_164 0 5 (dk_at dksX1_feed_0 10 rfl rfl)
theorem dX1_feed_13 : decode cX1_feed 13 = .ok (.iconst (-1), 1) := dk_2 (dk_at dksX1_feed_0 13 rfl rfl)
theorem dX1_feed_14 : decode cX1_feed 14 = .ok (.ireturn, 1) := dk_172 (dk_at dksX1_feed_0 14 rfl rfl)
theorem dX1_feed_15 : decode cX1_feed 15 = .ok (.iconst 5, 1) := dk_8 (dk_at dksX1_feed_0 15 rfl rfl)
theorem dX1_feed_16 : decode cX1_feed 16 = .ok (.newarray .int, 2) := dk_188_10 (dk_at dksX1_feed_0 16 rfl rfl)
theorem dX1_feed_18 : decode cX1_feed 18 = .ok (.dup, 1) := dk_89 (dk_at dksX1_feed_0 18 rfl rfl)
theorem dX1_feed_19 : decode cX1_feed 19 = .ok (.iconst 0, 1) := dk_3 (dk_at dksX1_feed_0 19 rfl rfl)
theorem dX1_feed_20 : decode cX1_feed 20 = .ok (.iload_n 1, 1) := dk_27 (dk_at dksX1_feed_0 20 rfl rfl)
theorem dX1_feed_21 : decode cX1_feed 21 = .ok (.iastore, 1) := dk_79 (dk_at dksX1_feed_0 21 rfl rfl)
theorem dX1_feed_22 : decode cX1_feed 22 = .ok (.dup, 1) := dk_89 (dk_at dksX1_feed_0 22 rfl rfl)
theorem dX1_feed_23 : decode cX1_feed 23 = .ok (.iconst 1, 1) := dk_4 (dk_at dksX1_feed_0 23 rfl rfl)
theorem dX1_feed_24 : decode cX1_feed 24 = .ok (.iload_n 2, 1) := dk_28 (dk_at dksX1_feed_1 0 rfl rfl)
theorem dX1_feed_25 : decode cX1_feed 25 = .ok (.iastore, 1) := dk_79 (dk_at dksX1_feed_1 1 rfl rfl)
theorem dX1_feed_26 : decode cX1_feed 26 = .ok (.dup, 1) := dk_89 (dk_at dksX1_feed_1 2 rfl rfl)
theorem dX1_feed_27 : decode cX1_feed 27 = .ok (.iconst 2, 1) := dk_5 (dk_at dksX1_feed_1 3 rfl rfl)
theorem dX1_feed_28 : decode cX1_feed 28 = .ok (.iload_n 3, 1) := dk_29 (dk_at dksX1_feed_1 4 rfl rfl)
theorem dX1_feed_29 : decode cX1_feed 29 = .ok (.iastore, 1) := dk_79 (dk_at dksX1_feed_1 5 rfl rfl)
theorem dX1_feed_30 : decode cX1_feed 30 = .ok (.dup, 1) := dk_89 (dk_at dksX1_feed_1 6 rfl rfl)
theorem dX1_feed_31 : decode cX1_feed 31 = .ok (.iconst 3, 1) := dk_6 (dk_at dksX1_feed_1 7 rfl rfl)
theorem dX1_feed_32 : decode cX1_feed 32 = .ok (.iload 4, 2) := dk_21 4 (dk_at dksX1_feed_1 8 rfl rfl)
theorem dX1_feed_34 : decode cX1_feed 34 = .ok (.iastore, 1) := dk_79 (dk_at dksX1_feed_1 10 rfl rfl)
theorem dX1_feed_35 : decode cX1_feed 35 = .ok (.dup, 1) := dk_89 (dk_at dksX1_feed_1 11 rfl rfl)
theorem dX1_feed_36 : decode cX1_feed 36 = .ok (.iconst 4, 1) := dk_7 (dk_at dksX1_feed_1 12 rfl rfl)
theorem dX1_feed_37 : decode cX1_feed 37 = .ok (.iload 5, 2) := dk_21 5 (dk_at dksX1_feed_1 13 rfl rfl)
theorem dX1_feed_39 : decode cX1_feed 39 = .ok (.iastore, 1) := dk_79 (dk_at dksX1_feed_1 15 rfl rfl)
theorem dX1_feed_40 : decode cX1_feed 40 = .ok (.astore 6, 2) := dk_58 6 (dk_at dksX1_feed_1 16 rfl rfl)
theorem dX1_feed_42 : decode cX1_feed 42 = .ok (.iconst 0, 1) := dk_3 (dk_at dksX1_feed_1 18 rfl rfl)
theorem dX1_feed_43 : decode cX1_feed 43 = .ok (.istore 7, 2) := dk_54 7 (dk_at dksX1_feed_1 19 rfl rfl)
theorem dX1_feed_45 : decode cX1_feed 45 = .ok (.iload 7, 2) := dk_21 7 (dk_at dksX1_feed_1 21 rfl rfl)
theorem dX1_feed_47 : decode cX1_feed 47 = .ok (.bipush 20, 2) := dk_16 20 (dk_at dksX1_feed_2 0 rfl rfl)
theorem dX1_feed_49 : decode cX1_feed 49 = .ok (.if_icmp .ge 44, 3) := dk_162 0 44 (dk_at dksX1_feed_2 2 rfl rfl)
theorem dX1_feed_52 : decode cX1_feed 52 = .ok (.aload_n 0, 1) := dk_42 (dk_at dksX1_feed_2 5 rfl rfl)
theorem dX1_feed_53 : decode cX1_feed 53 = .ok (.getfield 9, 3) := dk_180 0 9 (dk_at dksX1_feed_2 6 rfl rfl)
theorem dX1_feed_56 : decode cX1_feed 56 = .ok (.aload_n 0, 1) := dk_42 (dk_at dksX1_feed_2 9 rfl rfl)
theorem dX1_feed_57 : decode cX1_feed 57 = .ok (.dup, 1) := dk_89 (dk_at dksX1_feed_2 10 rfl rfl)
theorem dX1_feed_58 : decode cX1_feed 58 = .ok (.getfield 115, 3) := dk_180 0 115 (dk_at dksX1_feed_2 11 rfl rfl)
theorem dX1_feed_61 : decode cX1_feed 61 = .ok (.dup_x1, 1) := dk_90 (dk_at dksX1_feed_2 14 rfl rfl)
theorem dX1_feed_62 : decode cX1_feed 62 = .ok (.iconst 1, 1) := dk_4 (dk_at dksX1_feed_2 15 rfl rfl)
theorem dX1_feed_63 : decode cX1_feed 63 = .ok (.iadd, 1) := dk_96 (dk_at dksX1_feed_2 16 rfl rfl)
theorem dX1_feed_64 : decode cX1_feed 64 = .ok (.putfield 115, 3) := dk_181 0 115 (dk_at dksX1_feed_2 17 rfl rfl)
theorem dX1_feed_67 : decode cX1_feed 67 = .ok (.aload 6, 2) := dk_25 6 (dk_at dksX1_feed_2 20 rfl rfl)
theorem dX1_feed_69 : decode cX1_feed 69 = .ok (.iload 7, 2) := dk_21 7 (dk_at dksX1_feed_2 22 rfl rfl)
theorem dX1_feed_71 : decode cX1_feed 71 = .ok (.iconst 4, 1) := dk_7 (dk_at dksX1_feed_3 0 rfl rfl)
theorem dX1_feed_72 : decode cX1_feed 72 = .ok (.idiv, 1) := dk_108 (dk_at dksX1_feed_3 1 rfl rfl)
theorem dX1_feed_73 : decode cX1_feed 73 = .ok (.iaload, 1) := dk_46 (dk_at dksX1_feed_3 2 rfl rfl)
theorem dX1_feed_74 : decode cX1_feed 74 = .ok (.bipush 24, 2) := dk_16 24 (dk_at dksX1_feed_3 3 rfl rfl)
theorem dX1_feed_76 : decode cX1_feed 76 = .ok (.bipush 8, 2) := dk_16 8 (dk_at dksX1_feed_3 5 rfl rfl)
theorem dX1_feed_78 : decode cX1_feed 78 = .ok (.iload 7, 2) := dk_21 7 (dk_at dksX1_feed_3 7 rfl rfl)
theorem dX1_feed_80 : decode cX1_feed 80 = .ok (.iconst 4, 1) := dk_7 (dk_at dksX1_feed_3 9 rfl rfl)
theorem dX1_feed_81 : decode cX1_feed 81 = .ok (.irem, 1) := dk_112 (dk_at dksX1_feed_3 10 rfl rfl)
theorem dX1_feed_82 : decode cX1_feed 82 = .ok (.imul, 1) := dk_104 (dk_at dksX1_feed_3 11 rfl rfl)
theorem dX1_feed_83 : decode cX1_feed 83 = .ok (.isub, 1) := dk_100 (dk_at dksX1_feed_3 12 rfl rfl)
theorem dX1_feed_84 : decode cX1_feed 84 = .ok (.ishr, 1) := dk_122 (dk_at dksX1_feed_3 13 rfl rfl)
theorem dX1_feed_85 : decode cX1_feed 85 = .ok (.i2b, 1) := dk_145 (dk_at dksX1_feed_3 14 rfl rfl)
theorem dX1_feed_86 : decode cX1_feed 86 = .ok (.bastore, 1) := dk_84 (dk_at dksX1_feed_3 15 rfl rfl)
theorem dX1_feed_87 : decode cX1_feed 87 = .ok (.iinc 7 1, 3) := dk_132 7 1 (dk_at dksX1_feed_3 16 rfl rfl)
theorem dX1_feed_90 : decode cX1_feed 90 = .ok (.goto (-45), 3) := dk_167 255 211 (dk_at dksX1_feed_3 19 rfl rfl)
theorem dX1_feed_93 : decode cX1_feed 93 = .ok (.aload_n 0, 1) := dk_42 (dk_at dksX1_feed_3 22 rfl rfl)
theorem dX1_feed_94 : decode cX1_feed 94 = .ok (.getfield 115, 3) := dk_180 0 115 (dk_at dksX1_feed_4 0 rfl rfl)
theorem dX1_feed_97 : decode cX1_feed 97 = .ok (.ireturn, 1) := dk_172 (dk_at dksX1_feed_4 3 rfl rfl)
abbrev cX1_fault : ByteArray := prog_1_method_13_code
def yX1_fault : MethodName := ⟨RX1, "fault", "()I"⟩
theorem dX1_fault_0 : decode cX1_fault 0 = .ok (.aload_n 0, 1) := by decide +kernel
theorem dX1_fault_1 : decode cX1_fault 1 = .ok (.getfield 87, 3) := by decide +kernel
theorem dX1_fault_4 : decode cX1_fault 4 = .ok (.ireturn, 1) := by decide +kernel
abbrev cX1_undo : ByteArray := prog_1_method_14_code
def yX1_undo : MethodName := ⟨RX1, "undo", "()I"⟩
def dkwX1_undo_1 : List UInt8 := [180, 0, 152, 4, 100, 90, 181, 0, 152, 172]
abbrev dktX1_undo_1 : List UInt8 := dkwX1_undo_1 ++ []
def dkwX1_undo_0 : List UInt8 := [42, 180, 0, 25, 180, 0, 152, 154, 0, 5, 2, 172, 42, 3, 181, 0, 162, 42, 180, 0, 25, 89]
abbrev dktX1_undo_0 : List UInt8 := dkwX1_undo_0 ++ dktX1_undo_1
theorem dksX1_undo_0 : cX1_undo.data.toList.drop 0 = dktX1_undo_0 := by decide +kernel
theorem dksX1_undo_1 : cX1_undo.data.toList.drop 22 = dktX1_undo_1 := dk_seg dksX1_undo_0 22 rfl rfl
theorem dX1_undo_0 : decode cX1_undo 0 = .ok (.aload_n 0, 1) := dk_42 (dk_at dksX1_undo_0 0 rfl rfl)
theorem dX1_undo_1 : decode cX1_undo 1 = .ok (.getfield 25, 3) := dk_180 0 25 (dk_at dksX1_undo_0 1 rfl rfl)
theorem dX1_undo_4 : decode cX1_undo 4 = .ok (.getfield 152, 3) := dk_180 0 152 (dk_at dksX1_undo_0 4 rfl rfl)
theorem dX1_undo_7 : decode cX1_undo 7 = .ok (.ifCond .ne 5, 3) := dk_154 0 5 (dk_at dksX1_undo_0 7 rfl rfl)
theorem dX1_undo_10 : decode cX1_undo 10 = .ok (.iconst (-1), 1) := dk_2 (dk_at dksX1_undo_0 10 rfl rfl)
theorem dX1_undo_11 : decode cX1_undo 11 = .ok (.ireturn, 1) := dk_172 (dk_at dksX1_undo_0 11 rfl rfl)
theorem dX1_undo_12 : decode cX1_undo 12 = .ok (.aload_n 0, 1) := dk_42 (dk_at dksX1_undo_0 12 rfl rfl)
theorem dX1_undo_13 : decode cX1_undo 13 = .ok (.iconst 0, 1) := dk_3 (dk_at dksX1_undo_0 13 rfl rfl)
theorem dX1_undo_14 : decode cX1_undo 14 = .ok (.putfield 162, 3) := dk_181 0 162 (dk_at dksX1_undo_0 14 rfl rfl)
theorem dX1_undo_17 : decode cX1_undo 17 = .ok (.aload_n 0, 1) := dk_42 (dk_at dksX1_undo_0 17 rfl rfl)
theorem dX1_undo_18 : decode cX1_undo 18 = .ok (.getfield 25, 3) := dk_180 0 25 (dk_at dksX1_undo_0 18 rfl rfl)
theorem dX1_undo_21 : decode cX1_undo 21 = .ok (.dup, 1) := dk_89 (dk_at dksX1_undo_0 21 rfl rfl)
theorem dX1_undo_22 : decode cX1_undo 22 = .ok (.getfield 152, 3) := dk_180 0 152 (dk_at dksX1_undo_1 0 rfl rfl)
theorem dX1_undo_25 : decode cX1_undo 25 = .ok (.iconst 1, 1) := dk_4 (dk_at dksX1_undo_1 3 rfl rfl)
theorem dX1_undo_26 : decode cX1_undo 26 = .ok (.isub, 1) := dk_100 (dk_at dksX1_undo_1 4 rfl rfl)
theorem dX1_undo_27 : decode cX1_undo 27 = .ok (.dup_x1, 1) := dk_90 (dk_at dksX1_undo_1 5 rfl rfl)
theorem dX1_undo_28 : decode cX1_undo 28 = .ok (.putfield 152, 3) := dk_181 0 152 (dk_at dksX1_undo_1 6 rfl rfl)
theorem dX1_undo_31 : decode cX1_undo 31 = .ok (.ireturn, 1) := dk_172 (dk_at dksX1_undo_1 9 rfl rfl)
abbrev cX1_mates : ByteArray := prog_1_method_26_code
def yX1_mates : MethodName := ⟨RX1, "mates", "()I"⟩
def dkwX1_mates_0 : List UInt8 := [42, 180, 0, 43, 42, 180, 0, 25, 182, 0, 91, 182, 1, 68, 42, 180, 0, 43, 180, 1, 71, 172]
abbrev dktX1_mates_0 : List UInt8 := dkwX1_mates_0 ++ []
theorem dksX1_mates_0 : cX1_mates.data.toList.drop 0 = dktX1_mates_0 := by decide +kernel
theorem dX1_mates_0 : decode cX1_mates 0 = .ok (.aload_n 0, 1) := dk_42 (dk_at dksX1_mates_0 0 rfl rfl)
theorem dX1_mates_1 : decode cX1_mates 1 = .ok (.getfield 43, 3) := dk_180 0 43 (dk_at dksX1_mates_0 1 rfl rfl)
theorem dX1_mates_4 : decode cX1_mates 4 = .ok (.aload_n 0, 1) := dk_42 (dk_at dksX1_mates_0 4 rfl rfl)
theorem dX1_mates_5 : decode cX1_mates 5 = .ok (.getfield 25, 3) := dk_180 0 25 (dk_at dksX1_mates_0 5 rfl rfl)
theorem dX1_mates_8 : decode cX1_mates 8 = .ok (.invokevirtual 91, 3) := dk_182 0 91 (dk_at dksX1_mates_0 8 rfl rfl)
theorem dX1_mates_11 : decode cX1_mates 11 = .ok (.invokevirtual 324, 3) := dk_182 1 68 (dk_at dksX1_mates_0 11 rfl rfl)
theorem dX1_mates_14 : decode cX1_mates 14 = .ok (.aload_n 0, 1) := dk_42 (dk_at dksX1_mates_0 14 rfl rfl)
theorem dX1_mates_15 : decode cX1_mates 15 = .ok (.getfield 43, 3) := dk_180 0 43 (dk_at dksX1_mates_0 15 rfl rfl)
theorem dX1_mates_18 : decode cX1_mates 18 = .ok (.getfield 327, 3) := dk_180 1 71 (dk_at dksX1_mates_0 18 rfl rfl)
theorem dX1_mates_21 : decode cX1_mates 21 = .ok (.ireturn, 1) := dk_172 (dk_at dksX1_mates_0 21 rfl rfl)
abbrev cX1_ladder : ByteArray := prog_1_method_29_code
def yX1_ladder : MethodName := ⟨RX1, "ladder", "()I"⟩
theorem dX1_ladder_0 : decode cX1_ladder 0 = .ok (.aload_n 0, 1) := by decide +kernel
theorem dX1_ladder_1 : decode cX1_ladder 1 = .ok (.invokevirtual 336, 3) := by decide +kernel
theorem dX1_ladder_4 : decode cX1_ladder 4 = .ok (.ireturn, 1) := by decide +kernel
abbrev cX1_climbs : ByteArray := prog_1_method_28_code
def yX1_climbs : MethodName := ⟨RX1, "climbs", "()I"⟩
def dkwX1_climbs_8 : List UInt8 := [167, 255, 188, 28, 172]
abbrev dktX1_climbs_8 : List UInt8 := dkwX1_climbs_8 ++ []
def dkwX1_climbs_7 : List UInt8 := [100, 46, 46, 163, 0, 6, 167, 0, 14, 42, 180, 0, 73, 29, 132, 3, 1, 21, 4, 79, 132, 4, 1]
abbrev dktX1_climbs_7 : List UInt8 := dkwX1_climbs_7 ++ dktX1_climbs_8
def dkwX1_climbs_6 : List UInt8 := [21, 4, 46, 28, 29, 100, 160, 0, 38, 29, 158, 0, 23, 43, 21, 4, 46, 43, 42, 180, 0, 73, 29, 4]
abbrev dktX1_climbs_6 : List UInt8 := dkwX1_climbs_6 ++ dktX1_climbs_7
def dkwX1_climbs_5 : List UInt8 := [3, 54, 4, 21, 4, 42, 180, 0, 83, 180, 0, 112, 162, 0, 62, 29, 28, 162, 0, 57, 42, 180, 0, 70]
abbrev dktX1_climbs_5 : List UInt8 := dkwX1_climbs_5 ++ dktX1_climbs_6
def dkwX1_climbs_4 : List UInt8 := [132, 5, 1, 167, 255, 204, 28, 42, 180, 0, 70, 21, 4, 46, 184, 1, 77, 61, 132, 4, 255, 167, 255, 167]
abbrev dktX1_climbs_4 : List UInt8 := dkwX1_climbs_4 ++ dktX1_climbs_5
def dkwX1_climbs_3 : List UInt8 := [21, 4, 42, 180, 0, 70, 21, 4, 46, 4, 42, 180, 0, 70, 21, 5, 46, 96, 184, 1, 77, 79]
abbrev dktX1_climbs_3 : List UInt8 := dkwX1_climbs_3 ++ dktX1_climbs_4
def dkwX1_climbs_2 : List UInt8 := [180, 0, 83, 180, 0, 112, 162, 0, 46, 43, 21, 5, 46, 43, 21, 4, 46, 164, 0, 29, 42, 180, 0, 70]
abbrev dktX1_climbs_2 : List UInt8 := dkwX1_climbs_2 ++ dktX1_climbs_3
def dkwX1_climbs_1 : List UInt8 := [54, 4, 21, 4, 155, 0, 90, 42, 180, 0, 70, 21, 4, 4, 79, 21, 4, 4, 96, 54, 5, 21, 5, 42]
abbrev dktX1_climbs_1 : List UInt8 := dkwX1_climbs_1 ++ dktX1_climbs_2
def dkwX1_climbs_0 : List UInt8 := [42, 180, 0, 25, 182, 0, 91, 180, 0, 248, 76, 3, 61, 3, 62, 42, 180, 0, 83, 180, 0, 112, 4, 100]
abbrev dktX1_climbs_0 : List UInt8 := dkwX1_climbs_0 ++ dktX1_climbs_1
theorem dksX1_climbs_0 : cX1_climbs.data.toList.drop 0 = dktX1_climbs_0 := by decide +kernel
theorem dksX1_climbs_1 : cX1_climbs.data.toList.drop 24 = dktX1_climbs_1 := dk_seg dksX1_climbs_0 24 rfl rfl
theorem dksX1_climbs_2 : cX1_climbs.data.toList.drop 48 = dktX1_climbs_2 := dk_seg dksX1_climbs_1 24 rfl rfl
theorem dksX1_climbs_3 : cX1_climbs.data.toList.drop 72 = dktX1_climbs_3 := dk_seg dksX1_climbs_2 24 rfl rfl
theorem dksX1_climbs_4 : cX1_climbs.data.toList.drop 94 = dktX1_climbs_4 := dk_seg dksX1_climbs_3 22 rfl rfl
theorem dksX1_climbs_5 : cX1_climbs.data.toList.drop 118 = dktX1_climbs_5 := dk_seg dksX1_climbs_4 24 rfl rfl
theorem dksX1_climbs_6 : cX1_climbs.data.toList.drop 142 = dktX1_climbs_6 := dk_seg dksX1_climbs_5 24 rfl rfl
theorem dksX1_climbs_7 : cX1_climbs.data.toList.drop 166 = dktX1_climbs_7 := dk_seg dksX1_climbs_6 24 rfl rfl
theorem dksX1_climbs_8 : cX1_climbs.data.toList.drop 189 = dktX1_climbs_8 := dk_seg dksX1_climbs_7 23 rfl rfl
theorem dX1_climbs_0 : decode cX1_climbs 0 = .ok (.aload_n 0, 1) := dk_42 (dk_at dksX1_climbs_0 0 rfl rfl)
theorem dX1_climbs_1 : decode cX1_climbs 1 = .ok (.getfield 25, 3) := dk_180 0 25 (dk_at dksX1_climbs_0 1 rfl rfl)
theorem dX1_climbs_4 : decode cX1_climbs 4 = .ok (.invokevirtual 91, 3) := dk_182 0 91 (dk_at dksX1_climbs_0 4 rfl rfl)
theorem dX1_climbs_7 : decode cX1_climbs 7 = .ok (.getfield 248, 3) := dk_180 0 248 (dk_at dksX1_climbs_0 7 rfl rfl)
theorem dX1_climbs_10 : decode cX1_climbs 10 = .ok (.astore_n 1, 1) := dk_76 (dk_at dksX1_climbs_0 10 rfl rfl)
theorem dX1_climbs_11 : decode cX1_climbs 11 = .ok (.iconst 0, 1) := dk_3 (dk_at dksX1_climbs_0 11 rfl rfl)
theorem dX1_climbs_12 : decode cX1_climbs 12 = .ok (.istore_n 2, 1) := dk_61 (dk_at dksX1_climbs_0 12 rfl rfl)
theorem dX1_climbs_13 : decode cX1_climbs 13 = .ok (.iconst 0, 1) := dk_3 (dk_at dksX1_climbs_0 13 rfl rfl)
theorem dX1_climbs_14 : decode cX1_climbs 14 = .ok (.istore_n 3, 1) := dk_62 (dk_at dksX1_climbs_0 14 rfl rfl)
theorem dX1_climbs_15 : decode cX1_climbs 15 = .ok (.aload_n 0, 1) := dk_42 (dk_at dksX1_climbs_0 15 rfl rfl)
theorem dX1_climbs_16 : decode cX1_climbs 16 = .ok (.getfield 83, 3) := dk_180 0 83 (dk_at dksX1_climbs_0 16 rfl rfl)
theorem dX1_climbs_19 : decode cX1_climbs 19 = .ok (.getfield 112, 3) := dk_180 0 112 (dk_at dksX1_climbs_0 19 rfl rfl)
theorem dX1_climbs_22 : decode cX1_climbs 22 = .ok (.iconst 1, 1) := dk_4 (dk_at dksX1_climbs_0 22 rfl rfl)
theorem dX1_climbs_23 : decode cX1_climbs 23 = .ok (.isub, 1) := dk_100 (dk_at dksX1_climbs_0 23 rfl rfl)
theorem dX1_climbs_24 : decode cX1_climbs 24 = .ok (.istore 4, 2) := dk_54 4 (dk_at dksX1_climbs_1 0 rfl rfl)
theorem dX1_climbs_26 : decode cX1_climbs 26 = .ok (.iload 4, 2) := dk_21 4 (dk_at dksX1_climbs_1 2 rfl rfl)
theorem dX1_climbs_28 : decode cX1_climbs 28 = .ok (.ifCond .lt 90, 3) := dk_155 0 90 (dk_at dksX1_climbs_1 4 rfl rfl)
theorem dX1_climbs_31 : decode cX1_climbs 31 = .ok (.aload_n 0, 1) := dk_42 (dk_at dksX1_climbs_1 7 rfl rfl)
theorem dX1_climbs_32 : decode cX1_climbs 32 = .ok (.getfield 70, 3) := dk_180 0 70 (dk_at dksX1_climbs_1 8 rfl rfl)
theorem dX1_climbs_35 : decode cX1_climbs 35 = .ok (.iload 4, 2) := dk_21 4 (dk_at dksX1_climbs_1 11 rfl rfl)
theorem dX1_climbs_37 : decode cX1_climbs 37 = .ok (.iconst 1, 1) := dk_4 (dk_at dksX1_climbs_1 13 rfl rfl)
theorem dX1_climbs_38 : decode cX1_climbs 38 = .ok (.iastore, 1) := dk_79 (dk_at dksX1_climbs_1 14 rfl rfl)
theorem dX1_climbs_39 : decode cX1_climbs 39 = .ok (.iload 4, 2) := dk_21 4 (dk_at dksX1_climbs_1 15 rfl rfl)
theorem dX1_climbs_41 : decode cX1_climbs 41 = .ok (.iconst 1, 1) := dk_4 (dk_at dksX1_climbs_1 17 rfl rfl)
theorem dX1_climbs_42 : decode cX1_climbs 42 = .ok (.iadd, 1) := dk_96 (dk_at dksX1_climbs_1 18 rfl rfl)
theorem dX1_climbs_43 : decode cX1_climbs 43 = .ok (.istore 5, 2) := dk_54 5 (dk_at dksX1_climbs_1 19 rfl rfl)
theorem dX1_climbs_45 : decode cX1_climbs 45 = .ok (.iload 5, 2) := dk_21 5 (dk_at dksX1_climbs_1 21 rfl rfl)
theorem dX1_climbs_47 : decode cX1_climbs 47 = .ok (.aload_n 0, 1) := dk_42 (dk_at dksX1_climbs_1 23 rfl rfl)
theorem dX1_climbs_48 : decode cX1_climbs 48 = .ok (.getfield 83, 3) := dk_180 0 83 (dk_at dksX1_climbs_2 0 rfl rfl)
theorem dX1_climbs_51 : decode cX1_climbs 51 = .ok (.getfield 112, 3) := dk_180 0 112 (dk_at dksX1_climbs_2 3 rfl rfl)
theorem dX1_climbs_54 : decode cX1_climbs 54 = .ok (.if_icmp .ge 46, 3) := dk_162 0 46 (dk_at dksX1_climbs_2 6 rfl rfl)
theorem dX1_climbs_57 : decode cX1_climbs 57 = .ok (.aload_n 1, 1) := dk_43 (dk_at dksX1_climbs_2 9 rfl rfl)
theorem dX1_climbs_58 : decode cX1_climbs 58 = .ok (.iload 5, 2) := dk_21 5 (dk_at dksX1_climbs_2 10 rfl rfl)
theorem dX1_climbs_60 : decode cX1_climbs 60 = .ok (.iaload, 1) := dk_46 (dk_at dksX1_climbs_2 12 rfl rfl)
theorem dX1_climbs_61 : decode cX1_climbs 61 = .ok (.aload_n 1, 1) := dk_43 (dk_at dksX1_climbs_2 13 rfl rfl)
theorem dX1_climbs_62 : decode cX1_climbs 62 = .ok (.iload 4, 2) := dk_21 4 (dk_at dksX1_climbs_2 14 rfl rfl)
theorem dX1_climbs_64 : decode cX1_climbs 64 = .ok (.iaload, 1) := dk_46 (dk_at dksX1_climbs_2 16 rfl rfl)
theorem dX1_climbs_65 : decode cX1_climbs 65 = .ok (.if_icmp .le 29, 3) := dk_164 0 29 (dk_at dksX1_climbs_2 17 rfl rfl)
theorem dX1_climbs_68 : decode cX1_climbs 68 = .ok (.aload_n 0, 1) := dk_42 (dk_at dksX1_climbs_2 20 rfl rfl)
theorem dX1_climbs_69 : decode cX1_climbs 69 = .ok (.getfield 70, 3) := dk_180 0 70 (dk_at dksX1_climbs_2 21 rfl rfl)
theorem dX1_climbs_72 : decode cX1_climbs 72 = .ok (.iload 4, 2) := dk_21 4 (dk_at dksX1_climbs_3 0 rfl rfl)
theorem dX1_climbs_74 : decode cX1_climbs 74 = .ok (.aload_n 0, 1) := dk_42 (dk_at dksX1_climbs_3 2 rfl rfl)
theorem dX1_climbs_75 : decode cX1_climbs 75 = .ok (.getfield 70, 3) := dk_180 0 70 (dk_at dksX1_climbs_3 3 rfl rfl)
theorem dX1_climbs_78 : decode cX1_climbs 78 = .ok (.iload 4, 2) := dk_21 4 (dk_at dksX1_climbs_3 6 rfl rfl)
theorem dX1_climbs_80 : decode cX1_climbs 80 = .ok (.iaload, 1) := dk_46 (dk_at dksX1_climbs_3 8 rfl rfl)
theorem dX1_climbs_81 : decode cX1_climbs 81 = .ok (.iconst 1, 1) := dk_4 (dk_at dksX1_climbs_3 9 rfl rfl)
theorem dX1_climbs_82 : decode cX1_climbs 82 = .ok (.aload_n 0, 1) := dk_42 (dk_at dksX1_climbs_3 10 rfl rfl)
theorem dX1_climbs_83 : decode cX1_climbs 83 = .ok (.getfield 70, 3) := dk_180 0 70 (dk_at dksX1_climbs_3 11 rfl rfl)
theorem dX1_climbs_86 : decode cX1_climbs 86 = .ok (.iload 5, 2) := dk_21 5 (dk_at dksX1_climbs_3 14 rfl rfl)
theorem dX1_climbs_88 : decode cX1_climbs 88 = .ok (.iaload, 1) := dk_46 (dk_at dksX1_climbs_3 16 rfl rfl)
theorem dX1_climbs_89 : decode cX1_climbs 89 = .ok (.iadd, 1) := dk_96 (dk_at dksX1_climbs_3 17 rfl rfl)
theorem dX1_climbs_90 : decode cX1_climbs 90 = .ok (.invokestatic 333, 3) := dk_184 1 77 (dk_at dksX1_climbs_3 18 rfl rfl)
theorem dX1_climbs_93 : decode cX1_climbs 93 = .ok (.iastore, 1) := dk_79 (dk_at dksX1_climbs_3 21 rfl rfl)
theorem dX1_climbs_94 : decode cX1_climbs 94 = .ok (.iinc 5 1, 3) := dk_132 5 1 (dk_at dksX1_climbs_4 0 rfl rfl)
theorem dX1_climbs_97 : decode cX1_climbs 97 = .ok (.goto (-52), 3) := dk_167 255 204 (dk_at dksX1_climbs_4 3 rfl rfl)
theorem dX1_climbs_100 : decode cX1_climbs 100 = .ok (.iload_n 2, 1) := dk_28 (dk_at dksX1_climbs_4 6 rfl rfl)
theorem dX1_climbs_101 : decode cX1_climbs 101 = .ok (.aload_n 0, 1) := dk_42 (dk_at dksX1_climbs_4 7 rfl rfl)
theorem dX1_climbs_102 : decode cX1_climbs 102 = .ok (.getfield 70, 3) := dk_180 0 70 (dk_at dksX1_climbs_4 8 rfl rfl)
theorem dX1_climbs_105 : decode cX1_climbs 105 = .ok (.iload 4, 2) := dk_21 4 (dk_at dksX1_climbs_4 11 rfl rfl)
theorem dX1_climbs_107 : decode cX1_climbs 107 = .ok (.iaload, 1) := dk_46 (dk_at dksX1_climbs_4 13 rfl rfl)
theorem dX1_climbs_108 : decode cX1_climbs 108 = .ok (.invokestatic 333, 3) := dk_184 1 77 (dk_at dksX1_climbs_4 14 rfl rfl)
theorem dX1_climbs_111 : decode cX1_climbs 111 = .ok (.istore_n 2, 1) := dk_61 (dk_at dksX1_climbs_4 17 rfl rfl)
theorem dX1_climbs_112 : decode cX1_climbs 112 = .ok (.iinc 4 (-1), 3) := dk_132 4 255 (dk_at dksX1_climbs_4 18 rfl rfl)
theorem dX1_climbs_115 : decode cX1_climbs 115 = .ok (.goto (-89), 3) := dk_167 255 167 (dk_at dksX1_climbs_4 21 rfl rfl)
theorem dX1_climbs_118 : decode cX1_climbs 118 = .ok (.iconst 0, 1) := dk_3 (dk_at dksX1_climbs_5 0 rfl rfl)
theorem dX1_climbs_119 : decode cX1_climbs 119 = .ok (.istore 4, 2) := dk_54 4 (dk_at dksX1_climbs_5 1 rfl rfl)
theorem dX1_climbs_121 : decode cX1_climbs 121 = .ok (.iload 4, 2) := dk_21 4 (dk_at dksX1_climbs_5 3 rfl rfl)
theorem dX1_climbs_123 : decode cX1_climbs 123 = .ok (.aload_n 0, 1) := dk_42 (dk_at dksX1_climbs_5 5 rfl rfl)
theorem dX1_climbs_124 : decode cX1_climbs 124 = .ok (.getfield 83, 3) := dk_180 0 83 (dk_at dksX1_climbs_5 6 rfl rfl)
theorem dX1_climbs_127 : decode cX1_climbs 127 = .ok (.getfield 112, 3) := dk_180 0 112 (dk_at dksX1_climbs_5 9 rfl rfl)
theorem dX1_climbs_130 : decode cX1_climbs 130 = .ok (.if_icmp .ge 62, 3) := dk_162 0 62 (dk_at dksX1_climbs_5 12 rfl rfl)
theorem dX1_climbs_133 : decode cX1_climbs 133 = .ok (.iload_n 3, 1) := dk_29 (dk_at dksX1_climbs_5 15 rfl rfl)
theorem dX1_climbs_134 : decode cX1_climbs 134 = .ok (.iload_n 2, 1) := dk_28 (dk_at dksX1_climbs_5 16 rfl rfl)
theorem dX1_climbs_135 : decode cX1_climbs 135 = .ok (.if_icmp .ge 57, 3) := dk_162 0 57 (dk_at dksX1_climbs_5 17 rfl rfl)
theorem dX1_climbs_138 : decode cX1_climbs 138 = .ok (.aload_n 0, 1) := dk_42 (dk_at dksX1_climbs_5 20 rfl rfl)
theorem dX1_climbs_139 : decode cX1_climbs 139 = .ok (.getfield 70, 3) := dk_180 0 70 (dk_at dksX1_climbs_5 21 rfl rfl)
theorem dX1_climbs_142 : decode cX1_climbs 142 = .ok (.iload 4, 2) := dk_21 4 (dk_at dksX1_climbs_6 0 rfl rfl)
theorem dX1_climbs_144 : decode cX1_climbs 144 = .ok (.iaload, 1) := dk_46 (dk_at dksX1_climbs_6 2 rfl rfl)
theorem dX1_climbs_145 : decode cX1_climbs 145 = .ok (.iload_n 2, 1) := dk_28 (dk_at dksX1_climbs_6 3 rfl rfl)
theorem dX1_climbs_146 : decode cX1_climbs 146 = .ok (.iload_n 3, 1) := dk_29 (dk_at dksX1_climbs_6 4 rfl rfl)
theorem dX1_climbs_147 : decode cX1_climbs 147 = .ok (.isub, 1) := dk_100 (dk_at dksX1_climbs_6 5 rfl rfl)
theorem dX1_climbs_148 : decode cX1_climbs 148 = .ok (.if_icmp .ne 38, 3) := dk_160 0 38 (dk_at dksX1_climbs_6 6 rfl rfl)
theorem dX1_climbs_151 : decode cX1_climbs 151 = .ok (.iload_n 3, 1) := dk_29 (dk_at dksX1_climbs_6 9 rfl rfl)
theorem dX1_climbs_152 : decode cX1_climbs 152 = .ok (.ifCond .le 23, 3) := dk_158 0 23 (dk_at dksX1_climbs_6 10 rfl rfl)
theorem dX1_climbs_155 : decode cX1_climbs 155 = .ok (.aload_n 1, 1) := dk_43 (dk_at dksX1_climbs_6 13 rfl rfl)
theorem dX1_climbs_156 : decode cX1_climbs 156 = .ok (.iload 4, 2) := dk_21 4 (dk_at dksX1_climbs_6 14 rfl rfl)
theorem dX1_climbs_158 : decode cX1_climbs 158 = .ok (.iaload, 1) := dk_46 (dk_at dksX1_climbs_6 16 rfl rfl)
theorem dX1_climbs_159 : decode cX1_climbs 159 = .ok (.aload_n 1, 1) := dk_43 (dk_at dksX1_climbs_6 17 rfl rfl)
theorem dX1_climbs_160 : decode cX1_climbs 160 = .ok (.aload_n 0, 1) := dk_42 (dk_at dksX1_climbs_6 18 rfl rfl)
theorem dX1_climbs_161 : decode cX1_climbs 161 = .ok (.getfield 73, 3) := dk_180 0 73 (dk_at dksX1_climbs_6 19 rfl rfl)
theorem dX1_climbs_164 : decode cX1_climbs 164 = .ok (.iload_n 3, 1) := dk_29 (dk_at dksX1_climbs_6 22 rfl rfl)
theorem dX1_climbs_165 : decode cX1_climbs 165 = .ok (.iconst 1, 1) := dk_4 (dk_at dksX1_climbs_6 23 rfl rfl)
theorem dX1_climbs_166 : decode cX1_climbs 166 = .ok (.isub, 1) := dk_100 (dk_at dksX1_climbs_7 0 rfl rfl)
theorem dX1_climbs_167 : decode cX1_climbs 167 = .ok (.iaload, 1) := dk_46 (dk_at dksX1_climbs_7 1 rfl rfl)
theorem dX1_climbs_168 : decode cX1_climbs 168 = .ok (.iaload, 1) := dk_46 (dk_at dksX1_climbs_7 2 rfl rfl)
theorem dX1_climbs_169 : decode cX1_climbs 169 = .ok (.if_icmp .gt 6, 3) := dk_163 0 6 (dk_at dksX1_climbs_7 3 rfl rfl)
theorem dX1_climbs_172 : decode cX1_climbs 172 = .ok (.goto 14, 3) := dk_167 0 14 (dk_at dksX1_climbs_7 6 rfl rfl)
theorem dX1_climbs_175 : decode cX1_climbs 175 = .ok (.aload_n 0, 1) := dk_42 (dk_at dksX1_climbs_7 9 rfl rfl)
theorem dX1_climbs_176 : decode cX1_climbs 176 = .ok (.getfield 73, 3) := dk_180 0 73 (dk_at dksX1_climbs_7 10 rfl rfl)
theorem dX1_climbs_179 : decode cX1_climbs 179 = .ok (.iload_n 3, 1) := dk_29 (dk_at dksX1_climbs_7 13 rfl rfl)
theorem dX1_climbs_180 : decode cX1_climbs 180 = .ok (.iinc 3 1, 3) := dk_132 3 1 (dk_at dksX1_climbs_7 14 rfl rfl)
theorem dX1_climbs_183 : decode cX1_climbs 183 = .ok (.iload 4, 2) := dk_21 4 (dk_at dksX1_climbs_7 17 rfl rfl)
theorem dX1_climbs_185 : decode cX1_climbs 185 = .ok (.iastore, 1) := dk_79 (dk_at dksX1_climbs_7 19 rfl rfl)
theorem dX1_climbs_186 : decode cX1_climbs 186 = .ok (.iinc 4 1, 3) := dk_132 4 1 (dk_at dksX1_climbs_7 20 rfl rfl)
theorem dX1_climbs_189 : decode cX1_climbs 189 = .ok (.goto (-68), 3) := dk_167 255 188 (dk_at dksX1_climbs_8 0 rfl rfl)
theorem dX1_climbs_192 : decode cX1_climbs 192 = .ok (.iload_n 2, 1) := dk_28 (dk_at dksX1_climbs_8 3 rfl rfl)
theorem dX1_climbs_193 : decode cX1_climbs 193 = .ok (.ireturn, 1) := dk_172 (dk_at dksX1_climbs_8 4 rfl rfl)
abbrev cX1_image : ByteArray := prog_1_method_52_code
def yX1_image : MethodName := ⟨RX1, "image", "()I"⟩
def dkwX1_image_1 : List UInt8 := [182, 1, 142, 42, 89, 180, 0, 165, 4, 96, 90, 181, 0, 165, 172]
abbrev dktX1_image_1 : List UInt8 := dkwX1_image_1 ++ []
def dkwX1_image_0 : List UInt8 := [42, 180, 0, 165, 6, 160, 0, 5, 2, 172, 42, 180, 0, 29, 42, 180, 0, 165, 50, 42, 180, 0, 25]
abbrev dktX1_image_0 : List UInt8 := dkwX1_image_0 ++ dktX1_image_1
theorem dksX1_image_0 : cX1_image.data.toList.drop 0 = dktX1_image_0 := by decide +kernel
theorem dksX1_image_1 : cX1_image.data.toList.drop 23 = dktX1_image_1 := dk_seg dksX1_image_0 23 rfl rfl
theorem dX1_image_0 : decode cX1_image 0 = .ok (.aload_n 0, 1) := dk_42 (dk_at dksX1_image_0 0 rfl rfl)
theorem dX1_image_1 : decode cX1_image 1 = .ok (.getfield 165, 3) := dk_180 0 165 (dk_at dksX1_image_0 1 rfl rfl)
theorem dX1_image_4 : decode cX1_image 4 = .ok (.iconst 3, 1) := dk_6 (dk_at dksX1_image_0 4 rfl rfl)
theorem dX1_image_5 : decode cX1_image 5 = .ok (.if_icmp .ne 5, 3) := dk_160 0 5 (dk_at dksX1_image_0 5 rfl rfl)
theorem dX1_image_8 : decode cX1_image 8 = .ok (.iconst (-1), 1) := dk_2 (dk_at dksX1_image_0 8 rfl rfl)
theorem dX1_image_9 : decode cX1_image 9 = .ok (.ireturn, 1) := dk_172 (dk_at dksX1_image_0 9 rfl rfl)
theorem dX1_image_10 : decode cX1_image 10 = .ok (.aload_n 0, 1) := dk_42 (dk_at dksX1_image_0 10 rfl rfl)
theorem dX1_image_11 : decode cX1_image 11 = .ok (.getfield 29, 3) := dk_180 0 29 (dk_at dksX1_image_0 11 rfl rfl)
theorem dX1_image_14 : decode cX1_image 14 = .ok (.aload_n 0, 1) := dk_42 (dk_at dksX1_image_0 14 rfl rfl)
theorem dX1_image_15 : decode cX1_image 15 = .ok (.getfield 165, 3) := dk_180 0 165 (dk_at dksX1_image_0 15 rfl rfl)
theorem dX1_image_18 : decode cX1_image 18 = .ok (.aaload, 1) := dk_50 (dk_at dksX1_image_0 18 rfl rfl)
theorem dX1_image_19 : decode cX1_image 19 = .ok (.aload_n 0, 1) := dk_42 (dk_at dksX1_image_0 19 rfl rfl)
theorem dX1_image_20 : decode cX1_image 20 = .ok (.getfield 25, 3) := dk_180 0 25 (dk_at dksX1_image_0 20 rfl rfl)
theorem dX1_image_23 : decode cX1_image 23 = .ok (.invokevirtual 398, 3) := dk_182 1 142 (dk_at dksX1_image_1 0 rfl rfl)
theorem dX1_image_26 : decode cX1_image 26 = .ok (.aload_n 0, 1) := dk_42 (dk_at dksX1_image_1 3 rfl rfl)
theorem dX1_image_27 : decode cX1_image 27 = .ok (.dup, 1) := dk_89 (dk_at dksX1_image_1 4 rfl rfl)
theorem dX1_image_28 : decode cX1_image 28 = .ok (.getfield 165, 3) := dk_180 0 165 (dk_at dksX1_image_1 5 rfl rfl)
theorem dX1_image_31 : decode cX1_image 31 = .ok (.iconst 1, 1) := dk_4 (dk_at dksX1_image_1 8 rfl rfl)
theorem dX1_image_32 : decode cX1_image 32 = .ok (.iadd, 1) := dk_96 (dk_at dksX1_image_1 9 rfl rfl)
theorem dX1_image_33 : decode cX1_image 33 = .ok (.dup_x1, 1) := dk_90 (dk_at dksX1_image_1 10 rfl rfl)
theorem dX1_image_34 : decode cX1_image 34 = .ok (.putfield 165, 3) := dk_181 0 165 (dk_at dksX1_image_1 11 rfl rfl)
theorem dX1_image_37 : decode cX1_image 37 = .ok (.ireturn, 1) := dk_172 (dk_at dksX1_image_1 14 rfl rfl)
abbrev cX1_restore : ByteArray := prog_1_method_53_code
def yX1_restore : MethodName := ⟨RX1, "restore", "()I"⟩
def dkwX1_restore_1 : List UInt8 := [90, 181, 0, 165, 50, 182, 1, 142, 42, 3, 181, 0, 162, 42, 180, 0, 165, 172]
abbrev dktX1_restore_1 : List UInt8 := dkwX1_restore_1 ++ []
def dkwX1_restore_0 : List UInt8 := [42, 180, 0, 165, 154, 0, 5, 2, 172, 42, 180, 0, 25, 42, 180, 0, 29, 42, 89, 180, 0, 165, 4, 100]
abbrev dktX1_restore_0 : List UInt8 := dkwX1_restore_0 ++ dktX1_restore_1
theorem dksX1_restore_0 : cX1_restore.data.toList.drop 0 = dktX1_restore_0 := by decide +kernel
theorem dksX1_restore_1 : cX1_restore.data.toList.drop 24 = dktX1_restore_1 := dk_seg dksX1_restore_0 24 rfl rfl
theorem dX1_restore_0 : decode cX1_restore 0 = .ok (.aload_n 0, 1) := dk_42 (dk_at dksX1_restore_0 0 rfl rfl)
theorem dX1_restore_1 : decode cX1_restore 1 = .ok (.getfield 165, 3) := dk_180 0 165 (dk_at dksX1_restore_0 1 rfl rfl)
theorem dX1_restore_4 : decode cX1_restore 4 = .ok (.ifCond .ne 5, 3) := dk_154 0 5 (dk_at dksX1_restore_0 4 rfl rfl)
theorem dX1_restore_7 : decode cX1_restore 7 = .ok (.iconst (-1), 1) := dk_2 (dk_at dksX1_restore_0 7 rfl rfl)
theorem dX1_restore_8 : decode cX1_restore 8 = .ok (.ireturn, 1) := dk_172 (dk_at dksX1_restore_0 8 rfl rfl)
theorem dX1_restore_9 : decode cX1_restore 9 = .ok (.aload_n 0, 1) := dk_42 (dk_at dksX1_restore_0 9 rfl rfl)
theorem dX1_restore_10 : decode cX1_restore 10 = .ok (.getfield 25, 3) := dk_180 0 25 (dk_at dksX1_restore_0 10 rfl rfl)
theorem dX1_restore_13 : decode cX1_restore 13 = .ok (.aload_n 0, 1) := dk_42 (dk_at dksX1_restore_0 13 rfl rfl)
theorem dX1_restore_14 : decode cX1_restore 14 = .ok (.getfield 29, 3) := dk_180 0 29 (dk_at dksX1_restore_0 14 rfl rfl)
theorem dX1_restore_17 : decode cX1_restore 17 = .ok (.aload_n 0, 1) := dk_42 (dk_at dksX1_restore_0 17 rfl rfl)
theorem dX1_restore_18 : decode cX1_restore 18 = .ok (.dup, 1) := dk_89 (dk_at dksX1_restore_0 18 rfl rfl)
theorem dX1_restore_19 : decode cX1_restore 19 = .ok (.getfield 165, 3) := dk_180 0 165 (dk_at dksX1_restore_0 19 rfl rfl)
theorem dX1_restore_22 : decode cX1_restore 22 = .ok (.iconst 1, 1) := dk_4 (dk_at dksX1_restore_0 22 rfl rfl)
theorem dX1_restore_23 : decode cX1_restore 23 = .ok (.isub, 1) := dk_100 (dk_at dksX1_restore_0 23 rfl rfl)
theorem dX1_restore_24 : decode cX1_restore 24 = .ok (.dup_x1, 1) := dk_90 (dk_at dksX1_restore_1 0 rfl rfl)
theorem dX1_restore_25 : decode cX1_restore 25 = .ok (.putfield 165, 3) := dk_181 0 165 (dk_at dksX1_restore_1 1 rfl rfl)
theorem dX1_restore_28 : decode cX1_restore 28 = .ok (.aaload, 1) := dk_50 (dk_at dksX1_restore_1 4 rfl rfl)
theorem dX1_restore_29 : decode cX1_restore 29 = .ok (.invokevirtual 398, 3) := dk_182 1 142 (dk_at dksX1_restore_1 5 rfl rfl)
theorem dX1_restore_32 : decode cX1_restore 32 = .ok (.aload_n 0, 1) := dk_42 (dk_at dksX1_restore_1 8 rfl rfl)
theorem dX1_restore_33 : decode cX1_restore 33 = .ok (.iconst 0, 1) := dk_3 (dk_at dksX1_restore_1 9 rfl rfl)
theorem dX1_restore_34 : decode cX1_restore 34 = .ok (.putfield 162, 3) := dk_181 0 162 (dk_at dksX1_restore_1 10 rfl rfl)
theorem dX1_restore_37 : decode cX1_restore 37 = .ok (.aload_n 0, 1) := dk_42 (dk_at dksX1_restore_1 13 rfl rfl)
theorem dX1_restore_38 : decode cX1_restore 38 = .ok (.getfield 165, 3) := dk_180 0 165 (dk_at dksX1_restore_1 14 rfl rfl)
theorem dX1_restore_41 : decode cX1_restore 41 = .ok (.ireturn, 1) := dk_172 (dk_at dksX1_restore_1 17 rfl rfl)
abbrev cX1_status : ByteArray := prog_1_method_54_code
def yX1_status : MethodName := ⟨RX1, "status", "(I)I"⟩
def dkwX1_status_0 : List UInt8 := [27, 155, 0, 8, 27, 4, 164, 0, 7, 2, 167, 0, 9, 42, 180, 0, 54, 27, 46, 172]
abbrev dktX1_status_0 : List UInt8 := dkwX1_status_0 ++ []
theorem dksX1_status_0 : cX1_status.data.toList.drop 0 = dktX1_status_0 := by decide +kernel
theorem dX1_status_0 : decode cX1_status 0 = .ok (.iload_n 1, 1) := dk_27 (dk_at dksX1_status_0 0 rfl rfl)
theorem dX1_status_1 : decode cX1_status 1 = .ok (.ifCond .lt 8, 3) := dk_155 0 8 (dk_at dksX1_status_0 1 rfl rfl)
theorem dX1_status_4 : decode cX1_status 4 = .ok (.iload_n 1, 1) := dk_27 (dk_at dksX1_status_0 4 rfl rfl)
theorem dX1_status_5 : decode cX1_status 5 = .ok (.iconst 1, 1) := dk_4 (dk_at dksX1_status_0 5 rfl rfl)
theorem dX1_status_6 : decode cX1_status 6 = .ok (.if_icmp .le 7, 3) := dk_164 0 7 (dk_at dksX1_status_0 6 rfl rfl)
theorem dX1_status_9 : decode cX1_status 9 = .ok (.iconst (-1), 1) := dk_2 (dk_at dksX1_status_0 9 rfl rfl)
theorem dX1_status_10 : decode cX1_status 10 = .ok (.goto 9, 3) := dk_167 0 9 (dk_at dksX1_status_0 10 rfl rfl)
theorem dX1_status_13 : decode cX1_status 13 = .ok (.aload_n 0, 1) := dk_42 (dk_at dksX1_status_0 13 rfl rfl)
theorem dX1_status_14 : decode cX1_status 14 = .ok (.getfield 54, 3) := dk_180 0 54 (dk_at dksX1_status_0 14 rfl rfl)
theorem dX1_status_17 : decode cX1_status 17 = .ok (.iload_n 1, 1) := dk_27 (dk_at dksX1_status_0 17 rfl rfl)
theorem dX1_status_18 : decode cX1_status 18 = .ok (.iaload, 1) := dk_46 (dk_at dksX1_status_0 18 rfl rfl)
theorem dX1_status_19 : decode cX1_status 19 = .ok (.ireturn, 1) := dk_172 (dk_at dksX1_status_0 19 rfl rfl)
abbrev cX1_count : ByteArray := prog_1_method_55_code
def yX1_count : MethodName := ⟨RX1, "count", "(I)I"⟩
def dkwX1_count_1 : List UInt8 := [5, 160, 0, 13, 42, 180, 0, 25, 180, 0, 152, 167, 0, 4, 2, 172]
abbrev dktX1_count_1 : List UInt8 := dkwX1_count_1 ++ []
def dkwX1_count_0 : List UInt8 := [27, 154, 0, 10, 42, 180, 0, 165, 167, 0, 31, 27, 4, 160, 0, 10, 42, 180, 0, 115, 167, 0, 19, 27]
abbrev dktX1_count_0 : List UInt8 := dkwX1_count_0 ++ dktX1_count_1
theorem dksX1_count_0 : cX1_count.data.toList.drop 0 = dktX1_count_0 := by decide +kernel
theorem dksX1_count_1 : cX1_count.data.toList.drop 24 = dktX1_count_1 := dk_seg dksX1_count_0 24 rfl rfl
theorem dX1_count_0 : decode cX1_count 0 = .ok (.iload_n 1, 1) := dk_27 (dk_at dksX1_count_0 0 rfl rfl)
theorem dX1_count_1 : decode cX1_count 1 = .ok (.ifCond .ne 10, 3) := dk_154 0 10 (dk_at dksX1_count_0 1 rfl rfl)
theorem dX1_count_4 : decode cX1_count 4 = .ok (.aload_n 0, 1) := dk_42 (dk_at dksX1_count_0 4 rfl rfl)
theorem dX1_count_5 : decode cX1_count 5 = .ok (.getfield 165, 3) := dk_180 0 165 (dk_at dksX1_count_0 5 rfl rfl)
theorem dX1_count_8 : decode cX1_count 8 = .ok (.goto 31, 3) := dk_167 0 31 (dk_at dksX1_count_0 8 rfl rfl)
theorem dX1_count_11 : decode cX1_count 11 = .ok (.iload_n 1, 1) := dk_27 (dk_at dksX1_count_0 11 rfl rfl)
theorem dX1_count_12 : decode cX1_count 12 = .ok (.iconst 1, 1) := dk_4 (dk_at dksX1_count_0 12 rfl rfl)
theorem dX1_count_13 : decode cX1_count 13 = .ok (.if_icmp .ne 10, 3) := dk_160 0 10 (dk_at dksX1_count_0 13 rfl rfl)
theorem dX1_count_16 : decode cX1_count 16 = .ok (.aload_n 0, 1) := dk_42 (dk_at dksX1_count_0 16 rfl rfl)
theorem dX1_count_17 : decode cX1_count 17 = .ok (.getfield 115, 3) := dk_180 0 115 (dk_at dksX1_count_0 17 rfl rfl)
theorem dX1_count_20 : decode cX1_count 20 = .ok (.goto 19, 3) := dk_167 0 19 (dk_at dksX1_count_0 20 rfl rfl)
theorem dX1_count_23 : decode cX1_count 23 = .ok (.iload_n 1, 1) := dk_27 (dk_at dksX1_count_0 23 rfl rfl)
theorem dX1_count_24 : decode cX1_count 24 = .ok (.iconst 2, 1) := dk_5 (dk_at dksX1_count_1 0 rfl rfl)
theorem dX1_count_25 : decode cX1_count 25 = .ok (.if_icmp .ne 13, 3) := dk_160 0 13 (dk_at dksX1_count_1 1 rfl rfl)
theorem dX1_count_28 : decode cX1_count 28 = .ok (.aload_n 0, 1) := dk_42 (dk_at dksX1_count_1 4 rfl rfl)
theorem dX1_count_29 : decode cX1_count 29 = .ok (.getfield 25, 3) := dk_180 0 25 (dk_at dksX1_count_1 5 rfl rfl)
theorem dX1_count_32 : decode cX1_count 32 = .ok (.getfield 152, 3) := dk_180 0 152 (dk_at dksX1_count_1 8 rfl rfl)
theorem dX1_count_35 : decode cX1_count 35 = .ok (.goto 4, 3) := dk_167 0 4 (dk_at dksX1_count_1 11 rfl rfl)
theorem dX1_count_38 : decode cX1_count 38 = .ok (.iconst (-1), 1) := dk_2 (dk_at dksX1_count_1 14 rfl rfl)
theorem dX1_count_39 : decode cX1_count 39 = .ok (.ireturn, 1) := dk_172 (dk_at dksX1_count_1 15 rfl rfl)
abbrev cX1_school : ByteArray := prog_1_method_9_code
def yX1_school : MethodName := ⟨RX1, "school", "(I)I"⟩
def dkwX1_school_3 : List UInt8 := [181, 0, 159, 42, 3, 181, 0, 162, 42, 3, 181, 0, 165, 42, 180, 0, 83, 180, 0, 112, 172]
abbrev dktX1_school_3 : List UInt8 := dkwX1_school_3 ++ []
def dkwX1_school_2 : List UInt8 := [42, 180, 0, 25, 182, 0, 91, 42, 180, 0, 83, 182, 0, 95, 42, 180, 0, 16, 1, 181, 0, 155, 42, 3]
abbrev dktX1_school_2 : List UInt8 := dkwX1_school_2 ++ dktX1_school_3
def dkwX1_school_1 : List UInt8 := [182, 0, 144, 181, 0, 83, 167, 0, 10, 77, 42, 44, 182, 0, 148, 172, 42, 180, 0, 25, 3, 181, 0, 152]
abbrev dktX1_school_1 : List UInt8 := dkwX1_school_1 ++ dktX1_school_2
def dkwX1_school_0 : List UInt8 := [42, 27, 3, 42, 180, 0, 115, 182, 0, 131, 42, 187, 0, 135, 89, 42, 27, 182, 0, 137, 183, 0, 141]
abbrev dktX1_school_0 : List UInt8 := dkwX1_school_0 ++ dktX1_school_1
theorem dksX1_school_0 : cX1_school.data.toList.drop 0 = dktX1_school_0 := by decide +kernel
theorem dksX1_school_1 : cX1_school.data.toList.drop 23 = dktX1_school_1 := dk_seg dksX1_school_0 23 rfl rfl
theorem dksX1_school_2 : cX1_school.data.toList.drop 47 = dktX1_school_2 := dk_seg dksX1_school_1 24 rfl rfl
theorem dksX1_school_3 : cX1_school.data.toList.drop 71 = dktX1_school_3 := dk_seg dksX1_school_2 24 rfl rfl
theorem dX1_school_0 : decode cX1_school 0 = .ok (.aload_n 0, 1) := dk_42 (dk_at dksX1_school_0 0 rfl rfl)
theorem dX1_school_1 : decode cX1_school 1 = .ok (.iload_n 1, 1) := dk_27 (dk_at dksX1_school_0 1 rfl rfl)
theorem dX1_school_2 : decode cX1_school 2 = .ok (.iconst 0, 1) := dk_3 (dk_at dksX1_school_0 2 rfl rfl)
theorem dX1_school_3 : decode cX1_school 3 = .ok (.aload_n 0, 1) := dk_42 (dk_at dksX1_school_0 3 rfl rfl)
theorem dX1_school_4 : decode cX1_school 4 = .ok (.getfield 115, 3) := dk_180 0 115 (dk_at dksX1_school_0 4 rfl rfl)
theorem dX1_school_7 : decode cX1_school 7 = .ok (.invokevirtual 131, 3) := dk_182 0 131 (dk_at dksX1_school_0 7 rfl rfl)
theorem dX1_school_10 : decode cX1_school 10 = .ok (.aload_n 0, 1) := dk_42 (dk_at dksX1_school_0 10 rfl rfl)
theorem dX1_school_11 : decode cX1_school 11 = .ok (.new 135, 3) := dk_187 0 135 (dk_at dksX1_school_0 11 rfl rfl)
theorem dX1_school_14 : decode cX1_school 14 = .ok (.dup, 1) := dk_89 (dk_at dksX1_school_0 14 rfl rfl)
theorem dX1_school_15 : decode cX1_school 15 = .ok (.aload_n 0, 1) := dk_42 (dk_at dksX1_school_0 15 rfl rfl)
theorem dX1_school_16 : decode cX1_school 16 = .ok (.iload_n 1, 1) := dk_27 (dk_at dksX1_school_0 16 rfl rfl)
theorem dX1_school_17 : decode cX1_school 17 = .ok (.invokevirtual 137, 3) := dk_182 0 137 (dk_at dksX1_school_0 17 rfl rfl)
theorem dX1_school_20 : decode cX1_school 20 = .ok (.invokespecial 141, 3) := dk_183 0 141 (dk_at dksX1_school_0 20 rfl rfl)
theorem dX1_school_23 : decode cX1_school 23 = .ok (.invokevirtual 144, 3) := dk_182 0 144 (dk_at dksX1_school_1 0 rfl rfl)
theorem dX1_school_26 : decode cX1_school 26 = .ok (.putfield 83, 3) := dk_181 0 83 (dk_at dksX1_school_1 3 rfl rfl)
theorem dX1_school_29 : decode cX1_school 29 = .ok (.goto 10, 3) := dk_167 0 10 (dk_at dksX1_school_1 6 rfl rfl)
theorem dX1_school_32 : decode cX1_school 32 = .ok (.astore_n 2, 1) := dk_77 (dk_at dksX1_school_1 9 rfl rfl)
theorem dX1_school_33 : decode cX1_school 33 = .ok (.aload_n 0, 1) := dk_42 (dk_at dksX1_school_1 10 rfl rfl)
theorem dX1_school_34 : decode cX1_school 34 = .ok (.aload_n 2, 1) := dk_44 (dk_at dksX1_school_1 11 rfl rfl)
theorem dX1_school_35 : decode cX1_school 35 = .ok (.invokevirtual 148, 3) := dk_182 0 148 (dk_at dksX1_school_1 12 rfl rfl)
theorem dX1_school_38 : decode cX1_school 38 = .ok (.ireturn, 1) := dk_172 (dk_at dksX1_school_1 15 rfl rfl)
theorem dX1_school_39 : decode cX1_school 39 = .ok (.aload_n 0, 1) := dk_42 (dk_at dksX1_school_1 16 rfl rfl)
theorem dX1_school_40 : decode cX1_school 40 = .ok (.getfield 25, 3) := dk_180 0 25 (dk_at dksX1_school_1 17 rfl rfl)
theorem dX1_school_43 : decode cX1_school 43 = .ok (.iconst 0, 1) := dk_3 (dk_at dksX1_school_1 20 rfl rfl)
theorem dX1_school_44 : decode cX1_school 44 = .ok (.putfield 152, 3) := dk_181 0 152 (dk_at dksX1_school_1 21 rfl rfl)
theorem dX1_school_47 : decode cX1_school 47 = .ok (.aload_n 0, 1) := dk_42 (dk_at dksX1_school_2 0 rfl rfl)
theorem dX1_school_48 : decode cX1_school 48 = .ok (.getfield 25, 3) := dk_180 0 25 (dk_at dksX1_school_2 1 rfl rfl)
theorem dX1_school_51 : decode cX1_school 51 = .ok (.invokevirtual 91, 3) := dk_182 0 91 (dk_at dksX1_school_2 4 rfl rfl)
theorem dX1_school_54 : decode cX1_school 54 = .ok (.aload_n 0, 1) := dk_42 (dk_at dksX1_school_2 7 rfl rfl)
theorem dX1_school_55 : decode cX1_school 55 = .ok (.getfield 83, 3) := dk_180 0 83 (dk_at dksX1_school_2 8 rfl rfl)
theorem dX1_school_58 : decode cX1_school 58 = .ok (.invokevirtual 95, 3) := dk_182 0 95 (dk_at dksX1_school_2 11 rfl rfl)
theorem dX1_school_61 : decode cX1_school 61 = .ok (.aload_n 0, 1) := dk_42 (dk_at dksX1_school_2 14 rfl rfl)
theorem dX1_school_62 : decode cX1_school 62 = .ok (.getfield 16, 3) := dk_180 0 16 (dk_at dksX1_school_2 15 rfl rfl)
theorem dX1_school_65 : decode cX1_school 65 = .ok (.aconst_null, 1) := dk_1 (dk_at dksX1_school_2 18 rfl rfl)
theorem dX1_school_66 : decode cX1_school 66 = .ok (.putfield 155, 3) := dk_181 0 155 (dk_at dksX1_school_2 19 rfl rfl)
theorem dX1_school_69 : decode cX1_school 69 = .ok (.aload_n 0, 1) := dk_42 (dk_at dksX1_school_2 22 rfl rfl)
theorem dX1_school_70 : decode cX1_school 70 = .ok (.iconst 0, 1) := dk_3 (dk_at dksX1_school_2 23 rfl rfl)
theorem dX1_school_71 : decode cX1_school 71 = .ok (.putfield 159, 3) := dk_181 0 159 (dk_at dksX1_school_3 0 rfl rfl)
theorem dX1_school_74 : decode cX1_school 74 = .ok (.aload_n 0, 1) := dk_42 (dk_at dksX1_school_3 3 rfl rfl)
theorem dX1_school_75 : decode cX1_school 75 = .ok (.iconst 0, 1) := dk_3 (dk_at dksX1_school_3 4 rfl rfl)
theorem dX1_school_76 : decode cX1_school 76 = .ok (.putfield 162, 3) := dk_181 0 162 (dk_at dksX1_school_3 5 rfl rfl)
theorem dX1_school_79 : decode cX1_school 79 = .ok (.aload_n 0, 1) := dk_42 (dk_at dksX1_school_3 8 rfl rfl)
theorem dX1_school_80 : decode cX1_school 80 = .ok (.iconst 0, 1) := dk_3 (dk_at dksX1_school_3 9 rfl rfl)
theorem dX1_school_81 : decode cX1_school 81 = .ok (.putfield 165, 3) := dk_181 0 165 (dk_at dksX1_school_3 10 rfl rfl)
theorem dX1_school_84 : decode cX1_school 84 = .ok (.aload_n 0, 1) := dk_42 (dk_at dksX1_school_3 13 rfl rfl)
theorem dX1_school_85 : decode cX1_school 85 = .ok (.getfield 83, 3) := dk_180 0 83 (dk_at dksX1_school_3 14 rfl rfl)
theorem dX1_school_88 : decode cX1_school 88 = .ok (.getfield 112, 3) := dk_180 0 112 (dk_at dksX1_school_3 17 rfl rfl)
theorem dX1_school_91 : decode cX1_school 91 = .ok (.ireturn, 1) := dk_172 (dk_at dksX1_school_3 20 rfl rfl)
abbrev cX1_within : ByteArray := prog_1_method_3_code
def yX1_within : MethodName := ⟨RX1, "within", "(III)V"⟩
def dkwX1_within_1 : List UInt8 := [89, 183, 0, 104, 191]
abbrev dktX1_within_1 : List UInt8 := dkwX1_within_1 ++ []
def dkwX1_within_0 : List UInt8 := [27, 28, 161, 0, 9, 27, 29, 163, 0, 4, 177, 42, 180, 0, 54, 4, 92, 46, 4, 96, 79, 187, 0, 102]
abbrev dktX1_within_0 : List UInt8 := dkwX1_within_0 ++ dktX1_within_1
theorem dksX1_within_0 : cX1_within.data.toList.drop 0 = dktX1_within_0 := by decide +kernel
theorem dksX1_within_1 : cX1_within.data.toList.drop 24 = dktX1_within_1 := dk_seg dksX1_within_0 24 rfl rfl
theorem dX1_within_0 : decode cX1_within 0 = .ok (.iload_n 1, 1) := dk_27 (dk_at dksX1_within_0 0 rfl rfl)
theorem dX1_within_1 : decode cX1_within 1 = .ok (.iload_n 2, 1) := dk_28 (dk_at dksX1_within_0 1 rfl rfl)
theorem dX1_within_2 : decode cX1_within 2 = .ok (.if_icmp .lt 9, 3) := dk_161 0 9 (dk_at dksX1_within_0 2 rfl rfl)
theorem dX1_within_5 : decode cX1_within 5 = .ok (.iload_n 1, 1) := dk_27 (dk_at dksX1_within_0 5 rfl rfl)
theorem dX1_within_6 : decode cX1_within 6 = .ok (.iload_n 3, 1) := dk_29 (dk_at dksX1_within_0 6 rfl rfl)
theorem dX1_within_7 : decode cX1_within 7 = .ok (.if_icmp .gt 4, 3) := dk_163 0 4 (dk_at dksX1_within_0 7 rfl rfl)
theorem dX1_within_10 : decode cX1_within 10 = .ok (.return_, 1) := dk_177 (dk_at dksX1_within_0 10 rfl rfl)
theorem dX1_within_11 : decode cX1_within 11 = .ok (.aload_n 0, 1) := dk_42 (dk_at dksX1_within_0 11 rfl rfl)
theorem dX1_within_12 : decode cX1_within 12 = .ok (.getfield 54, 3) := dk_180 0 54 (dk_at dksX1_within_0 12 rfl rfl)
theorem dX1_within_15 : decode cX1_within 15 = .ok (.iconst 1, 1) := dk_4 (dk_at dksX1_within_0 15 rfl rfl)
theorem dX1_within_16 : decode cX1_within 16 = .ok (.dup2, 1) := dk_92 (dk_at dksX1_within_0 16 rfl rfl)
theorem dX1_within_17 : decode cX1_within 17 = .ok (.iaload, 1) := dk_46 (dk_at dksX1_within_0 17 rfl rfl)
theorem dX1_within_18 : decode cX1_within 18 = .ok (.iconst 1, 1) := dk_4 (dk_at dksX1_within_0 18 rfl rfl)
theorem dX1_within_19 : decode cX1_within 19 = .ok (.iadd, 1) := dk_96 (dk_at dksX1_within_0 19 rfl rfl)
theorem dX1_within_20 : decode cX1_within 20 = .ok (.iastore, 1) := dk_79 (dk_at dksX1_within_0 20 rfl rfl)
theorem dX1_within_21 : decode cX1_within 21 = .ok (.new 102, 3) := dk_187 0 102 (dk_at dksX1_within_0 21 rfl rfl)
theorem dX1_within_24 : decode cX1_within 24 = .ok (.dup, 1) := dk_89 (dk_at dksX1_within_1 0 rfl rfl)
theorem dX1_within_25 : decode cX1_within 25 = .ok (.invokespecial 104, 3) := dk_183 0 104 (dk_at dksX1_within_1 1 rfl rfl)
theorem dX1_within_28 : decode cX1_within 28 = .ok (.athrow, 1) := dk_191 (dk_at dksX1_within_1 4 rfl rfl)
abbrev cX1_reader : ByteArray := prog_1_method_7_code
def yX1_reader : MethodName := ⟨RX1, "reader", "(I)LGrowingDoor$Reader;"⟩
def dkwX1_reader_0 : List UInt8 := [42, 3, 181, 0, 115, 42, 2, 181, 0, 87, 187, 0, 118, 89, 42, 180, 0, 9, 27, 183, 0, 120, 176]
abbrev dktX1_reader_0 : List UInt8 := dkwX1_reader_0 ++ []
theorem dksX1_reader_0 : cX1_reader.data.toList.drop 0 = dktX1_reader_0 := by decide +kernel
theorem dX1_reader_0 : decode cX1_reader 0 = .ok (.aload_n 0, 1) := dk_42 (dk_at dksX1_reader_0 0 rfl rfl)
theorem dX1_reader_1 : decode cX1_reader 1 = .ok (.iconst 0, 1) := dk_3 (dk_at dksX1_reader_0 1 rfl rfl)
theorem dX1_reader_2 : decode cX1_reader 2 = .ok (.putfield 115, 3) := dk_181 0 115 (dk_at dksX1_reader_0 2 rfl rfl)
theorem dX1_reader_5 : decode cX1_reader 5 = .ok (.aload_n 0, 1) := dk_42 (dk_at dksX1_reader_0 5 rfl rfl)
theorem dX1_reader_6 : decode cX1_reader 6 = .ok (.iconst (-1), 1) := dk_2 (dk_at dksX1_reader_0 6 rfl rfl)
theorem dX1_reader_7 : decode cX1_reader 7 = .ok (.putfield 87, 3) := dk_181 0 87 (dk_at dksX1_reader_0 7 rfl rfl)
theorem dX1_reader_10 : decode cX1_reader 10 = .ok (.new 118, 3) := dk_187 0 118 (dk_at dksX1_reader_0 10 rfl rfl)
theorem dX1_reader_13 : decode cX1_reader 13 = .ok (.dup, 1) := dk_89 (dk_at dksX1_reader_0 13 rfl rfl)
theorem dX1_reader_14 : decode cX1_reader 14 = .ok (.aload_n 0, 1) := dk_42 (dk_at dksX1_reader_0 14 rfl rfl)
theorem dX1_reader_15 : decode cX1_reader 15 = .ok (.getfield 9, 3) := dk_180 0 9 (dk_at dksX1_reader_0 15 rfl rfl)
theorem dX1_reader_18 : decode cX1_reader 18 = .ok (.iload_n 1, 1) := dk_27 (dk_at dksX1_reader_0 18 rfl rfl)
theorem dX1_reader_19 : decode cX1_reader 19 = .ok (.invokespecial 120, 3) := dk_183 0 120 (dk_at dksX1_reader_0 19 rfl rfl)
theorem dX1_reader_22 : decode cX1_reader 22 = .ok (.areturn, 1) := dk_176 (dk_at dksX1_reader_0 22 rfl rfl)
abbrev cX1_faulty : ByteArray := prog_1_method_8_code
def yX1_faulty : MethodName := ⟨RX1, "faulty", "(LGrowingDoor$Wrong;)I"⟩
def dkwX1_faulty_0 : List UInt8 := [42, 43, 180, 0, 123, 181, 0, 87, 43, 180, 0, 128, 16, 10, 100, 172]
abbrev dktX1_faulty_0 : List UInt8 := dkwX1_faulty_0 ++ []
theorem dksX1_faulty_0 : cX1_faulty.data.toList.drop 0 = dktX1_faulty_0 := by decide +kernel
theorem dX1_faulty_0 : decode cX1_faulty 0 = .ok (.aload_n 0, 1) := dk_42 (dk_at dksX1_faulty_0 0 rfl rfl)
theorem dX1_faulty_1 : decode cX1_faulty 1 = .ok (.aload_n 1, 1) := dk_43 (dk_at dksX1_faulty_0 1 rfl rfl)
theorem dX1_faulty_2 : decode cX1_faulty 2 = .ok (.getfield 123, 3) := dk_180 0 123 (dk_at dksX1_faulty_0 2 rfl rfl)
theorem dX1_faulty_5 : decode cX1_faulty 5 = .ok (.putfield 87, 3) := dk_181 0 87 (dk_at dksX1_faulty_0 5 rfl rfl)
theorem dX1_faulty_8 : decode cX1_faulty 8 = .ok (.aload_n 1, 1) := dk_43 (dk_at dksX1_faulty_0 8 rfl rfl)
theorem dX1_faulty_9 : decode cX1_faulty 9 = .ok (.getfield 128, 3) := dk_180 0 128 (dk_at dksX1_faulty_0 9 rfl rfl)
theorem dX1_faulty_12 : decode cX1_faulty 12 = .ok (.bipush 10, 2) := dk_16 10 (dk_at dksX1_faulty_0 12 rfl rfl)
theorem dX1_faulty_14 : decode cX1_faulty 14 = .ok (.isub, 1) := dk_100 (dk_at dksX1_faulty_0 14 rfl rfl)
theorem dX1_faulty_15 : decode cX1_faulty 15 = .ok (.ireturn, 1) := dk_172 (dk_at dksX1_faulty_0 15 rfl rfl)
abbrev cX1_law : ByteArray := prog_1_method_10_code
def yX1_law : MethodName := ⟨RX1, "law", "(I)I"⟩
def dkwX1_law_2 : List UInt8 := [4, 172]
abbrev dktX1_law_2 : List UInt8 := dkwX1_law_2 ++ []
def dkwX1_law_1 : List UInt8 := [42, 27, 182, 0, 137, 183, 0, 176, 182, 0, 177, 181, 0, 155, 167, 0, 10, 77, 42, 44, 182, 0, 148, 172]
abbrev dktX1_law_1 : List UInt8 := dkwX1_law_1 ++ dktX1_law_2
def dkwX1_law_0 : List UInt8 := [42, 27, 3, 42, 180, 0, 115, 17, 0, 150, 184, 0, 168, 182, 0, 131, 42, 180, 0, 16, 187, 0, 174, 89]
abbrev dktX1_law_0 : List UInt8 := dkwX1_law_0 ++ dktX1_law_1
theorem dksX1_law_0 : cX1_law.data.toList.drop 0 = dktX1_law_0 := by decide +kernel
theorem dksX1_law_1 : cX1_law.data.toList.drop 24 = dktX1_law_1 := dk_seg dksX1_law_0 24 rfl rfl
theorem dksX1_law_2 : cX1_law.data.toList.drop 48 = dktX1_law_2 := dk_seg dksX1_law_1 24 rfl rfl
theorem dX1_law_0 : decode cX1_law 0 = .ok (.aload_n 0, 1) := dk_42 (dk_at dksX1_law_0 0 rfl rfl)
theorem dX1_law_1 : decode cX1_law 1 = .ok (.iload_n 1, 1) := dk_27 (dk_at dksX1_law_0 1 rfl rfl)
theorem dX1_law_2 : decode cX1_law 2 = .ok (.iconst 0, 1) := dk_3 (dk_at dksX1_law_0 2 rfl rfl)
theorem dX1_law_3 : decode cX1_law 3 = .ok (.aload_n 0, 1) := dk_42 (dk_at dksX1_law_0 3 rfl rfl)
theorem dX1_law_4 : decode cX1_law 4 = .ok (.getfield 115, 3) := dk_180 0 115 (dk_at dksX1_law_0 4 rfl rfl)
theorem dX1_law_7 : decode cX1_law 7 = .ok (.sipush 150, 3) := dk_17 0 150 (dk_at dksX1_law_0 7 rfl rfl)
theorem dX1_law_10 : decode cX1_law 10 = .ok (.invokestatic 168, 3) := dk_184 0 168 (dk_at dksX1_law_0 10 rfl rfl)
theorem dX1_law_13 : decode cX1_law 13 = .ok (.invokevirtual 131, 3) := dk_182 0 131 (dk_at dksX1_law_0 13 rfl rfl)
theorem dX1_law_16 : decode cX1_law 16 = .ok (.aload_n 0, 1) := dk_42 (dk_at dksX1_law_0 16 rfl rfl)
theorem dX1_law_17 : decode cX1_law 17 = .ok (.getfield 16, 3) := dk_180 0 16 (dk_at dksX1_law_0 17 rfl rfl)
theorem dX1_law_20 : decode cX1_law 20 = .ok (.new 174, 3) := dk_187 0 174 (dk_at dksX1_law_0 20 rfl rfl)
theorem dX1_law_23 : decode cX1_law 23 = .ok (.dup, 1) := dk_89 (dk_at dksX1_law_0 23 rfl rfl)
theorem dX1_law_24 : decode cX1_law 24 = .ok (.aload_n 0, 1) := dk_42 (dk_at dksX1_law_1 0 rfl rfl)
theorem dX1_law_25 : decode cX1_law 25 = .ok (.iload_n 1, 1) := dk_27 (dk_at dksX1_law_1 1 rfl rfl)
theorem dX1_law_26 : decode cX1_law 26 = .ok (.invokevirtual 137, 3) := dk_182 0 137 (dk_at dksX1_law_1 2 rfl rfl)
theorem dX1_law_29 : decode cX1_law 29 = .ok (.invokespecial 176, 3) := dk_183 0 176 (dk_at dksX1_law_1 5 rfl rfl)
theorem dX1_law_32 : decode cX1_law 32 = .ok (.invokevirtual 177, 3) := dk_182 0 177 (dk_at dksX1_law_1 8 rfl rfl)
theorem dX1_law_35 : decode cX1_law 35 = .ok (.putfield 155, 3) := dk_181 0 155 (dk_at dksX1_law_1 11 rfl rfl)
theorem dX1_law_38 : decode cX1_law 38 = .ok (.goto 10, 3) := dk_167 0 10 (dk_at dksX1_law_1 14 rfl rfl)
theorem dX1_law_41 : decode cX1_law 41 = .ok (.astore_n 2, 1) := dk_77 (dk_at dksX1_law_1 17 rfl rfl)
theorem dX1_law_42 : decode cX1_law 42 = .ok (.aload_n 0, 1) := dk_42 (dk_at dksX1_law_1 18 rfl rfl)
theorem dX1_law_43 : decode cX1_law 43 = .ok (.aload_n 2, 1) := dk_44 (dk_at dksX1_law_1 19 rfl rfl)
theorem dX1_law_44 : decode cX1_law 44 = .ok (.invokevirtual 148, 3) := dk_182 0 148 (dk_at dksX1_law_1 20 rfl rfl)
theorem dX1_law_47 : decode cX1_law 47 = .ok (.ireturn, 1) := dk_172 (dk_at dksX1_law_1 23 rfl rfl)
theorem dX1_law_48 : decode cX1_law 48 = .ok (.iconst 1, 1) := dk_4 (dk_at dksX1_law_2 0 rfl rfl)
theorem dX1_law_49 : decode cX1_law 49 = .ok (.ireturn, 1) := dk_172 (dk_at dksX1_law_2 1 rfl rfl)
abbrev cX1_work : ByteArray := prog_1_method_11_code
def yX1_work : MethodName := ⟨RX1, "work", "(I)I"⟩
def dkwX1_work_5 : List UInt8 := [25, 4, 182, 0, 196, 42, 25, 4, 180, 0, 202, 181, 0, 162, 25, 4, 180, 0, 204, 172]
abbrev dktX1_work_5 : List UInt8 := dkwX1_work_5 ++ []
def dkwX1_work_4 : List UInt8 := [181, 0, 152, 187, 0, 188, 89, 42, 180, 0, 25, 182, 0, 91, 45, 182, 0, 190, 183, 0, 193, 58, 4, 44]
abbrev dktX1_work_4 : List UInt8 := dkwX1_work_4 ++ dktX1_work_5
def dkwX1_work_3 : List UInt8 := [182, 0, 148, 172, 42, 180, 0, 25, 182, 0, 91, 78, 42, 180, 0, 25, 89, 180, 0, 152, 4, 96]
abbrev dktX1_work_3 : List UInt8 := dkwX1_work_3 ++ dktX1_work_4
def dkwX1_work_2 : List UInt8 := [42, 27, 182, 0, 137, 42, 180, 0, 83, 183, 0, 182, 182, 0, 185, 77, 167, 0, 10, 78, 42, 45]
abbrev dktX1_work_2 : List UInt8 := dkwX1_work_2 ++ dktX1_work_3
def dkwX1_work_1 : List UInt8 := [16, 16, 160, 0, 16, 42, 3, 181, 0, 115, 42, 2, 181, 0, 87, 16, 236, 172, 1, 77, 187, 0, 180, 89]
abbrev dktX1_work_1 : List UInt8 := dkwX1_work_1 ++ dktX1_work_2
def dkwX1_work_0 : List UInt8 := [42, 27, 3, 42, 180, 0, 115, 17, 0, 150, 184, 0, 168, 182, 0, 131, 42, 180, 0, 25, 180, 0, 152]
abbrev dktX1_work_0 : List UInt8 := dkwX1_work_0 ++ dktX1_work_1
theorem dksX1_work_0 : cX1_work.data.toList.drop 0 = dktX1_work_0 := by decide +kernel
theorem dksX1_work_1 : cX1_work.data.toList.drop 23 = dktX1_work_1 := dk_seg dksX1_work_0 23 rfl rfl
theorem dksX1_work_2 : cX1_work.data.toList.drop 47 = dktX1_work_2 := dk_seg dksX1_work_1 24 rfl rfl
theorem dksX1_work_3 : cX1_work.data.toList.drop 69 = dktX1_work_3 := dk_seg dksX1_work_2 22 rfl rfl
theorem dksX1_work_4 : cX1_work.data.toList.drop 91 = dktX1_work_4 := dk_seg dksX1_work_3 22 rfl rfl
theorem dksX1_work_5 : cX1_work.data.toList.drop 115 = dktX1_work_5 := dk_seg dksX1_work_4 24 rfl rfl
theorem dX1_work_0 : decode cX1_work 0 = .ok (.aload_n 0, 1) := dk_42 (dk_at dksX1_work_0 0 rfl rfl)
theorem dX1_work_1 : decode cX1_work 1 = .ok (.iload_n 1, 1) := dk_27 (dk_at dksX1_work_0 1 rfl rfl)
theorem dX1_work_2 : decode cX1_work 2 = .ok (.iconst 0, 1) := dk_3 (dk_at dksX1_work_0 2 rfl rfl)
theorem dX1_work_3 : decode cX1_work 3 = .ok (.aload_n 0, 1) := dk_42 (dk_at dksX1_work_0 3 rfl rfl)
theorem dX1_work_4 : decode cX1_work 4 = .ok (.getfield 115, 3) := dk_180 0 115 (dk_at dksX1_work_0 4 rfl rfl)
theorem dX1_work_7 : decode cX1_work 7 = .ok (.sipush 150, 3) := dk_17 0 150 (dk_at dksX1_work_0 7 rfl rfl)
theorem dX1_work_10 : decode cX1_work 10 = .ok (.invokestatic 168, 3) := dk_184 0 168 (dk_at dksX1_work_0 10 rfl rfl)
theorem dX1_work_13 : decode cX1_work 13 = .ok (.invokevirtual 131, 3) := dk_182 0 131 (dk_at dksX1_work_0 13 rfl rfl)
theorem dX1_work_16 : decode cX1_work 16 = .ok (.aload_n 0, 1) := dk_42 (dk_at dksX1_work_0 16 rfl rfl)
theorem dX1_work_17 : decode cX1_work 17 = .ok (.getfield 25, 3) := dk_180 0 25 (dk_at dksX1_work_0 17 rfl rfl)
theorem dX1_work_20 : decode cX1_work 20 = .ok (.getfield 152, 3) := dk_180 0 152 (dk_at dksX1_work_0 20 rfl rfl)
theorem dX1_work_23 : decode cX1_work 23 = .ok (.bipush 16, 2) := dk_16 16 (dk_at dksX1_work_1 0 rfl rfl)
theorem dX1_work_25 : decode cX1_work 25 = .ok (.if_icmp .ne 16, 3) := dk_160 0 16 (dk_at dksX1_work_1 2 rfl rfl)
theorem dX1_work_28 : decode cX1_work 28 = .ok (.aload_n 0, 1) := dk_42 (dk_at dksX1_work_1 5 rfl rfl)
theorem dX1_work_29 : decode cX1_work 29 = .ok (.iconst 0, 1) := dk_3 (dk_at dksX1_work_1 6 rfl rfl)
theorem dX1_work_30 : decode cX1_work 30 = .ok (.putfield 115, 3) := dk_181 0 115 (dk_at dksX1_work_1 7 rfl rfl)
theorem dX1_work_33 : decode cX1_work 33 = .ok (.aload_n 0, 1) := dk_42 (dk_at dksX1_work_1 10 rfl rfl)
theorem dX1_work_34 : decode cX1_work 34 = .ok (.iconst (-1), 1) := dk_2 (dk_at dksX1_work_1 11 rfl rfl)
theorem dX1_work_35 : decode cX1_work 35 = .ok (.putfield 87, 3) := dk_181 0 87 (dk_at dksX1_work_1 12 rfl rfl)
theorem dX1_work_38 : decode cX1_work 38 = .ok (.bipush (-20), 2) := dk_16 236 (dk_at dksX1_work_1 15 rfl rfl)
theorem dX1_work_40 : decode cX1_work 40 = .ok (.ireturn, 1) := dk_172 (dk_at dksX1_work_1 17 rfl rfl)
theorem dX1_work_41 : decode cX1_work 41 = .ok (.aconst_null, 1) := dk_1 (dk_at dksX1_work_1 18 rfl rfl)
theorem dX1_work_42 : decode cX1_work 42 = .ok (.astore_n 2, 1) := dk_77 (dk_at dksX1_work_1 19 rfl rfl)
theorem dX1_work_43 : decode cX1_work 43 = .ok (.new 180, 3) := dk_187 0 180 (dk_at dksX1_work_1 20 rfl rfl)
theorem dX1_work_46 : decode cX1_work 46 = .ok (.dup, 1) := dk_89 (dk_at dksX1_work_1 23 rfl rfl)
theorem dX1_work_47 : decode cX1_work 47 = .ok (.aload_n 0, 1) := dk_42 (dk_at dksX1_work_2 0 rfl rfl)
theorem dX1_work_48 : decode cX1_work 48 = .ok (.iload_n 1, 1) := dk_27 (dk_at dksX1_work_2 1 rfl rfl)
theorem dX1_work_49 : decode cX1_work 49 = .ok (.invokevirtual 137, 3) := dk_182 0 137 (dk_at dksX1_work_2 2 rfl rfl)
theorem dX1_work_52 : decode cX1_work 52 = .ok (.aload_n 0, 1) := dk_42 (dk_at dksX1_work_2 5 rfl rfl)
theorem dX1_work_53 : decode cX1_work 53 = .ok (.getfield 83, 3) := dk_180 0 83 (dk_at dksX1_work_2 6 rfl rfl)
theorem dX1_work_56 : decode cX1_work 56 = .ok (.invokespecial 182, 3) := dk_183 0 182 (dk_at dksX1_work_2 9 rfl rfl)
theorem dX1_work_59 : decode cX1_work 59 = .ok (.invokevirtual 185, 3) := dk_182 0 185 (dk_at dksX1_work_2 12 rfl rfl)
theorem dX1_work_62 : decode cX1_work 62 = .ok (.astore_n 2, 1) := dk_77 (dk_at dksX1_work_2 15 rfl rfl)
theorem dX1_work_63 : decode cX1_work 63 = .ok (.goto 10, 3) := dk_167 0 10 (dk_at dksX1_work_2 16 rfl rfl)
theorem dX1_work_66 : decode cX1_work 66 = .ok (.astore_n 3, 1) := dk_78 (dk_at dksX1_work_2 19 rfl rfl)
theorem dX1_work_67 : decode cX1_work 67 = .ok (.aload_n 0, 1) := dk_42 (dk_at dksX1_work_2 20 rfl rfl)
theorem dX1_work_68 : decode cX1_work 68 = .ok (.aload_n 3, 1) := dk_45 (dk_at dksX1_work_2 21 rfl rfl)
theorem dX1_work_69 : decode cX1_work 69 = .ok (.invokevirtual 148, 3) := dk_182 0 148 (dk_at dksX1_work_3 0 rfl rfl)
theorem dX1_work_72 : decode cX1_work 72 = .ok (.ireturn, 1) := dk_172 (dk_at dksX1_work_3 3 rfl rfl)
theorem dX1_work_73 : decode cX1_work 73 = .ok (.aload_n 0, 1) := dk_42 (dk_at dksX1_work_3 4 rfl rfl)
theorem dX1_work_74 : decode cX1_work 74 = .ok (.getfield 25, 3) := dk_180 0 25 (dk_at dksX1_work_3 5 rfl rfl)
theorem dX1_work_77 : decode cX1_work 77 = .ok (.invokevirtual 91, 3) := dk_182 0 91 (dk_at dksX1_work_3 8 rfl rfl)
theorem dX1_work_80 : decode cX1_work 80 = .ok (.astore_n 3, 1) := dk_78 (dk_at dksX1_work_3 11 rfl rfl)
theorem dX1_work_81 : decode cX1_work 81 = .ok (.aload_n 0, 1) := dk_42 (dk_at dksX1_work_3 12 rfl rfl)
theorem dX1_work_82 : decode cX1_work 82 = .ok (.getfield 25, 3) := dk_180 0 25 (dk_at dksX1_work_3 13 rfl rfl)
theorem dX1_work_85 : decode cX1_work 85 = .ok (.dup, 1) := dk_89 (dk_at dksX1_work_3 16 rfl rfl)
theorem dX1_work_86 : decode cX1_work 86 = .ok (.getfield 152, 3) := dk_180 0 152 (dk_at dksX1_work_3 17 rfl rfl)
theorem dX1_work_89 : decode cX1_work 89 = .ok (.iconst 1, 1) := dk_4 (dk_at dksX1_work_3 20 rfl rfl)
theorem dX1_work_90 : decode cX1_work 90 = .ok (.iadd, 1) := dk_96 (dk_at dksX1_work_3 21 rfl rfl)
theorem dX1_work_91 : decode cX1_work 91 = .ok (.putfield 152, 3) := dk_181 0 152 (dk_at dksX1_work_4 0 rfl rfl)
theorem dX1_work_94 : decode cX1_work 94 = .ok (.new 188, 3) := dk_187 0 188 (dk_at dksX1_work_4 3 rfl rfl)
theorem dX1_work_97 : decode cX1_work 97 = .ok (.dup, 1) := dk_89 (dk_at dksX1_work_4 6 rfl rfl)
theorem dX1_work_98 : decode cX1_work 98 = .ok (.aload_n 0, 1) := dk_42 (dk_at dksX1_work_4 7 rfl rfl)
theorem dX1_work_99 : decode cX1_work 99 = .ok (.getfield 25, 3) := dk_180 0 25 (dk_at dksX1_work_4 8 rfl rfl)
theorem dX1_work_102 : decode cX1_work 102 = .ok (.invokevirtual 91, 3) := dk_182 0 91 (dk_at dksX1_work_4 11 rfl rfl)
theorem dX1_work_105 : decode cX1_work 105 = .ok (.aload_n 3, 1) := dk_45 (dk_at dksX1_work_4 14 rfl rfl)
theorem dX1_work_106 : decode cX1_work 106 = .ok (.invokevirtual 190, 3) := dk_182 0 190 (dk_at dksX1_work_4 15 rfl rfl)
theorem dX1_work_109 : decode cX1_work 109 = .ok (.invokespecial 193, 3) := dk_183 0 193 (dk_at dksX1_work_4 18 rfl rfl)
theorem dX1_work_112 : decode cX1_work 112 = .ok (.astore 4, 2) := dk_58 4 (dk_at dksX1_work_4 21 rfl rfl)
theorem dX1_work_114 : decode cX1_work 114 = .ok (.aload_n 2, 1) := dk_44 (dk_at dksX1_work_4 23 rfl rfl)
theorem dX1_work_115 : decode cX1_work 115 = .ok (.aload 4, 2) := dk_25 4 (dk_at dksX1_work_5 0 rfl rfl)
theorem dX1_work_117 : decode cX1_work 117 = .ok (.invokevirtual 196, 3) := dk_182 0 196 (dk_at dksX1_work_5 2 rfl rfl)
theorem dX1_work_120 : decode cX1_work 120 = .ok (.aload_n 0, 1) := dk_42 (dk_at dksX1_work_5 5 rfl rfl)
theorem dX1_work_121 : decode cX1_work 121 = .ok (.aload 4, 2) := dk_25 4 (dk_at dksX1_work_5 6 rfl rfl)
theorem dX1_work_123 : decode cX1_work 123 = .ok (.getfield 202, 3) := dk_180 0 202 (dk_at dksX1_work_5 8 rfl rfl)
theorem dX1_work_126 : decode cX1_work 126 = .ok (.putfield 162, 3) := dk_181 0 162 (dk_at dksX1_work_5 11 rfl rfl)
theorem dX1_work_129 : decode cX1_work 129 = .ok (.aload 4, 2) := dk_25 4 (dk_at dksX1_work_5 14 rfl rfl)
theorem dX1_work_131 : decode cX1_work 131 = .ok (.getfield 204, 3) := dk_180 0 204 (dk_at dksX1_work_5 16 rfl rfl)
theorem dX1_work_134 : decode cX1_work 134 = .ok (.ireturn, 1) := dk_172 (dk_at dksX1_work_5 19 rfl rfl)
abbrev cX1_book : ByteArray := prog_1_method_12_code
def yX1_book : MethodName := ⟨RX1, "book", "(I)I"⟩
def dkwX1_book_8 : List UInt8 := [184, 0, 221, 42, 180, 0, 159, 172]
abbrev dktX1_book_8 : List UInt8 := dkwX1_book_8 ++ []
def dkwX1_book_7 : List UInt8 := [181, 0, 159, 44, 3, 42, 180, 0, 58, 3, 16, 6, 184, 0, 221, 45, 3, 42, 180, 0, 61, 3, 16, 6]
abbrev dktX1_book_7 : List UInt8 := dkwX1_book_7 ++ dktX1_book_8
def dkwX1_book_6 : List UInt8 := [182, 0, 217, 132, 4, 1, 167, 255, 147, 167, 0, 12, 58, 5, 42, 25, 5, 182, 0, 148, 172, 42, 21, 4]
abbrev dktX1_book_6 : List UInt8 := dkwX1_book_6 ++ dktX1_book_7
def dkwX1_book_5 : List UInt8 := [44, 21, 4, 21, 7, 79, 45, 21, 4, 25, 5, 3, 17, 3, 231, 182, 0, 212, 79, 25, 5, 16, 59]
abbrev dktX1_book_5 : List UInt8 := dkwX1_book_5 ++ dktX1_book_6
def dkwX1_book_4 : List UInt8 := [132, 8, 1, 167, 255, 226, 21, 4, 16, 6, 160, 0, 14, 187, 0, 124, 89, 6, 21, 6, 183, 0, 215, 191]
abbrev dktX1_book_4 : List UInt8 := dkwX1_book_4 ++ dktX1_book_5
def dkwX1_book_3 : List UInt8 := [162, 0, 29, 44, 21, 8, 46, 21, 7, 160, 0, 14, 187, 0, 124, 89, 5, 21, 6, 183, 0, 215, 191]
abbrev dktX1_book_3 : List UInt8 := dkwX1_book_3 ++ dktX1_book_4
def dkwX1_book_2 : List UInt8 := [182, 0, 210, 54, 6, 25, 5, 4, 16, 12, 182, 0, 212, 54, 7, 3, 54, 8, 21, 8, 21, 4]
abbrev dktX1_book_2 : List UInt8 := dkwX1_book_2 ++ dktX1_book_3
def dkwX1_book_1 : List UInt8 := [78, 3, 54, 4, 42, 27, 182, 0, 137, 58, 5, 25, 5, 182, 0, 207, 2, 159, 0, 106, 25, 5]
abbrev dktX1_book_1 : List UInt8 := dkwX1_book_1 ++ dktX1_book_2
def dkwX1_book_0 : List UInt8 := [42, 27, 3, 42, 180, 0, 115, 16, 60, 184, 0, 168, 182, 0, 131, 16, 6, 188, 10, 77, 16, 6, 188, 10]
abbrev dktX1_book_0 : List UInt8 := dkwX1_book_0 ++ dktX1_book_1
theorem dksX1_book_0 : cX1_book.data.toList.drop 0 = dktX1_book_0 := by decide +kernel
theorem dksX1_book_1 : cX1_book.data.toList.drop 24 = dktX1_book_1 := dk_seg dksX1_book_0 24 rfl rfl
theorem dksX1_book_2 : cX1_book.data.toList.drop 46 = dktX1_book_2 := dk_seg dksX1_book_1 22 rfl rfl
theorem dksX1_book_3 : cX1_book.data.toList.drop 68 = dktX1_book_3 := dk_seg dksX1_book_2 22 rfl rfl
theorem dksX1_book_4 : cX1_book.data.toList.drop 91 = dktX1_book_4 := dk_seg dksX1_book_3 23 rfl rfl
theorem dksX1_book_5 : cX1_book.data.toList.drop 115 = dktX1_book_5 := dk_seg dksX1_book_4 24 rfl rfl
theorem dksX1_book_6 : cX1_book.data.toList.drop 138 = dktX1_book_6 := dk_seg dksX1_book_5 23 rfl rfl
theorem dksX1_book_7 : cX1_book.data.toList.drop 162 = dktX1_book_7 := dk_seg dksX1_book_6 24 rfl rfl
theorem dksX1_book_8 : cX1_book.data.toList.drop 186 = dktX1_book_8 := dk_seg dksX1_book_7 24 rfl rfl
theorem dX1_book_0 : decode cX1_book 0 = .ok (.aload_n 0, 1) := dk_42 (dk_at dksX1_book_0 0 rfl rfl)
theorem dX1_book_1 : decode cX1_book 1 = .ok (.iload_n 1, 1) := dk_27 (dk_at dksX1_book_0 1 rfl rfl)
theorem dX1_book_2 : decode cX1_book 2 = .ok (.iconst 0, 1) := dk_3 (dk_at dksX1_book_0 2 rfl rfl)
theorem dX1_book_3 : decode cX1_book 3 = .ok (.aload_n 0, 1) := dk_42 (dk_at dksX1_book_0 3 rfl rfl)
theorem dX1_book_4 : decode cX1_book 4 = .ok (.getfield 115, 3) := dk_180 0 115 (dk_at dksX1_book_0 4 rfl rfl)
theorem dX1_book_7 : decode cX1_book 7 = .ok (.bipush 60, 2) := dk_16 60 (dk_at dksX1_book_0 7 rfl rfl)
theorem dX1_book_9 : decode cX1_book 9 = .ok (.invokestatic 168, 3) := dk_184 0 168 (dk_at dksX1_book_0 9 rfl rfl)
theorem dX1_book_12 : decode cX1_book 12 = .ok (.invokevirtual 131, 3) := dk_182 0 131 (dk_at dksX1_book_0 12 rfl rfl)
theorem dX1_book_15 : decode cX1_book 15 = .ok (.bipush 6, 2) := dk_16 6 (dk_at dksX1_book_0 15 rfl rfl)
theorem dX1_book_17 : decode cX1_book 17 = .ok (.newarray .int, 2) := dk_188_10 (dk_at dksX1_book_0 17 rfl rfl)
theorem dX1_book_19 : decode cX1_book 19 = .ok (.astore_n 2, 1) := dk_77 (dk_at dksX1_book_0 19 rfl rfl)
theorem dX1_book_20 : decode cX1_book 20 = .ok (.bipush 6, 2) := dk_16 6 (dk_at dksX1_book_0 20 rfl rfl)
theorem dX1_book_22 : decode cX1_book 22 = .ok (.newarray .int, 2) := dk_188_10 (dk_at dksX1_book_0 22 rfl rfl)
theorem dX1_book_24 : decode cX1_book 24 = .ok (.astore_n 3, 1) := dk_78 (dk_at dksX1_book_1 0 rfl rfl)
theorem dX1_book_25 : decode cX1_book 25 = .ok (.iconst 0, 1) := dk_3 (dk_at dksX1_book_1 1 rfl rfl)
theorem dX1_book_26 : decode cX1_book 26 = .ok (.istore 4, 2) := dk_54 4 (dk_at dksX1_book_1 2 rfl rfl)
theorem dX1_book_28 : decode cX1_book 28 = .ok (.aload_n 0, 1) := dk_42 (dk_at dksX1_book_1 4 rfl rfl)
theorem dX1_book_29 : decode cX1_book 29 = .ok (.iload_n 1, 1) := dk_27 (dk_at dksX1_book_1 5 rfl rfl)
theorem dX1_book_30 : decode cX1_book 30 = .ok (.invokevirtual 137, 3) := dk_182 0 137 (dk_at dksX1_book_1 6 rfl rfl)
theorem dX1_book_33 : decode cX1_book 33 = .ok (.astore 5, 2) := dk_58 5 (dk_at dksX1_book_1 9 rfl rfl)
theorem dX1_book_35 : decode cX1_book 35 = .ok (.aload 5, 2) := dk_25 5 (dk_at dksX1_book_1 11 rfl rfl)
theorem dX1_book_37 : decode cX1_book 37 = .ok (.invokevirtual 207, 3) := dk_182 0 207 (dk_at dksX1_book_1 13 rfl rfl)
theorem dX1_book_40 : decode cX1_book 40 = .ok (.iconst (-1), 1) := dk_2 (dk_at dksX1_book_1 16 rfl rfl)
theorem dX1_book_41 : decode cX1_book 41 = .ok (.if_icmp .eq 106, 3) := dk_159 0 106 (dk_at dksX1_book_1 17 rfl rfl)
theorem dX1_book_44 : decode cX1_book 44 = .ok (.aload 5, 2) := dk_25 5 (dk_at dksX1_book_1 20 rfl rfl)
theorem dX1_book_46 : decode cX1_book 46 = .ok (.invokevirtual 210, 3) := dk_182 0 210 (dk_at dksX1_book_2 0 rfl rfl)
theorem dX1_book_49 : decode cX1_book 49 = .ok (.istore 6, 2) := dk_54 6 (dk_at dksX1_book_2 3 rfl rfl)
theorem dX1_book_51 : decode cX1_book 51 = .ok (.aload 5, 2) := dk_25 5 (dk_at dksX1_book_2 5 rfl rfl)
theorem dX1_book_53 : decode cX1_book 53 = .ok (.iconst 1, 1) := dk_4 (dk_at dksX1_book_2 7 rfl rfl)
theorem dX1_book_54 : decode cX1_book 54 = .ok (.bipush 12, 2) := dk_16 12 (dk_at dksX1_book_2 8 rfl rfl)
theorem dX1_book_56 : decode cX1_book 56 = .ok (.invokevirtual 212, 3) := dk_182 0 212 (dk_at dksX1_book_2 10 rfl rfl)
theorem dX1_book_59 : decode cX1_book 59 = .ok (.istore 7, 2) := dk_54 7 (dk_at dksX1_book_2 13 rfl rfl)
theorem dX1_book_61 : decode cX1_book 61 = .ok (.iconst 0, 1) := dk_3 (dk_at dksX1_book_2 15 rfl rfl)
theorem dX1_book_62 : decode cX1_book 62 = .ok (.istore 8, 2) := dk_54 8 (dk_at dksX1_book_2 16 rfl rfl)
theorem dX1_book_64 : decode cX1_book 64 = .ok (.iload 8, 2) := dk_21 8 (dk_at dksX1_book_2 18 rfl rfl)
theorem dX1_book_66 : decode cX1_book 66 = .ok (.iload 4, 2) := dk_21 4 (dk_at dksX1_book_2 20 rfl rfl)
theorem dX1_book_68 : decode cX1_book 68 = .ok (.if_icmp .ge 29, 3) := dk_162 0 29 (dk_at dksX1_book_3 0 rfl rfl)
theorem dX1_book_71 : decode cX1_book 71 = .ok (.aload_n 2, 1) := dk_44 (dk_at dksX1_book_3 3 rfl rfl)
theorem dX1_book_72 : decode cX1_book 72 = .ok (.iload 8, 2) := dk_21 8 (dk_at dksX1_book_3 4 rfl rfl)
theorem dX1_book_74 : decode cX1_book 74 = .ok (.iaload, 1) := dk_46 (dk_at dksX1_book_3 6 rfl rfl)
theorem dX1_book_75 : decode cX1_book 75 = .ok (.iload 7, 2) := dk_21 7 (dk_at dksX1_book_3 7 rfl rfl)
theorem dX1_book_77 : decode cX1_book 77 = .ok (.if_icmp .ne 14, 3) := dk_160 0 14 (dk_at dksX1_book_3 9 rfl rfl)
theorem dX1_book_80 : decode cX1_book 80 = .ok (.new 124, 3) := dk_187 0 124 (dk_at dksX1_book_3 12 rfl rfl)
theorem dX1_book_83 : decode cX1_book 83 = .ok (.dup, 1) := dk_89 (dk_at dksX1_book_3 15 rfl rfl)
theorem dX1_book_84 : decode cX1_book 84 = .ok (.iconst 2, 1) := dk_5 (dk_at dksX1_book_3 16 rfl rfl)
theorem dX1_book_85 : decode cX1_book 85 = .ok (.iload 6, 2) := dk_21 6 (dk_at dksX1_book_3 17 rfl rfl)
theorem dX1_book_87 : decode cX1_book 87 = .ok (.invokespecial 215, 3) := dk_183 0 215 (dk_at dksX1_book_3 19 rfl rfl)
theorem dX1_book_90 : decode cX1_book 90 = .ok (.athrow, 1) := dk_191 (dk_at dksX1_book_3 22 rfl rfl)
theorem dX1_book_91 : decode cX1_book 91 = .ok (.iinc 8 1, 3) := dk_132 8 1 (dk_at dksX1_book_4 0 rfl rfl)
theorem dX1_book_94 : decode cX1_book 94 = .ok (.goto (-30), 3) := dk_167 255 226 (dk_at dksX1_book_4 3 rfl rfl)
theorem dX1_book_97 : decode cX1_book 97 = .ok (.iload 4, 2) := dk_21 4 (dk_at dksX1_book_4 6 rfl rfl)
theorem dX1_book_99 : decode cX1_book 99 = .ok (.bipush 6, 2) := dk_16 6 (dk_at dksX1_book_4 8 rfl rfl)
theorem dX1_book_101 : decode cX1_book 101 = .ok (.if_icmp .ne 14, 3) := dk_160 0 14 (dk_at dksX1_book_4 10 rfl rfl)
theorem dX1_book_104 : decode cX1_book 104 = .ok (.new 124, 3) := dk_187 0 124 (dk_at dksX1_book_4 13 rfl rfl)
theorem dX1_book_107 : decode cX1_book 107 = .ok (.dup, 1) := dk_89 (dk_at dksX1_book_4 16 rfl rfl)
theorem dX1_book_108 : decode cX1_book 108 = .ok (.iconst 3, 1) := dk_6 (dk_at dksX1_book_4 17 rfl rfl)
theorem dX1_book_109 : decode cX1_book 109 = .ok (.iload 6, 2) := dk_21 6 (dk_at dksX1_book_4 18 rfl rfl)
theorem dX1_book_111 : decode cX1_book 111 = .ok (.invokespecial 215, 3) := dk_183 0 215 (dk_at dksX1_book_4 20 rfl rfl)
theorem dX1_book_114 : decode cX1_book 114 = .ok (.athrow, 1) := dk_191 (dk_at dksX1_book_4 23 rfl rfl)
theorem dX1_book_115 : decode cX1_book 115 = .ok (.aload_n 2, 1) := dk_44 (dk_at dksX1_book_5 0 rfl rfl)
theorem dX1_book_116 : decode cX1_book 116 = .ok (.iload 4, 2) := dk_21 4 (dk_at dksX1_book_5 1 rfl rfl)
theorem dX1_book_118 : decode cX1_book 118 = .ok (.iload 7, 2) := dk_21 7 (dk_at dksX1_book_5 3 rfl rfl)
theorem dX1_book_120 : decode cX1_book 120 = .ok (.iastore, 1) := dk_79 (dk_at dksX1_book_5 5 rfl rfl)
theorem dX1_book_121 : decode cX1_book 121 = .ok (.aload_n 3, 1) := dk_45 (dk_at dksX1_book_5 6 rfl rfl)
theorem dX1_book_122 : decode cX1_book 122 = .ok (.iload 4, 2) := dk_21 4 (dk_at dksX1_book_5 7 rfl rfl)
theorem dX1_book_124 : decode cX1_book 124 = .ok (.aload 5, 2) := dk_25 5 (dk_at dksX1_book_5 9 rfl rfl)
theorem dX1_book_126 : decode cX1_book 126 = .ok (.iconst 0, 1) := dk_3 (dk_at dksX1_book_5 11 rfl rfl)
theorem dX1_book_127 : decode cX1_book 127 = .ok (.sipush 999, 3) := dk_17 3 231 (dk_at dksX1_book_5 12 rfl rfl)
theorem dX1_book_130 : decode cX1_book 130 = .ok (.invokevirtual 212, 3) := dk_182 0 212 (dk_at dksX1_book_5 15 rfl rfl)
theorem dX1_book_133 : decode cX1_book 133 = .ok (.iastore, 1) := dk_79 (dk_at dksX1_book_5 18 rfl rfl)
theorem dX1_book_134 : decode cX1_book 134 = .ok (.aload 5, 2) := dk_25 5 (dk_at dksX1_book_5 19 rfl rfl)
theorem dX1_book_136 : decode cX1_book 136 = .ok (.bipush 59, 2) := dk_16 59 (dk_at dksX1_book_5 21 rfl rfl)
theorem dX1_book_138 : decode cX1_book 138 = .ok (.invokevirtual 217, 3) := dk_182 0 217 (dk_at dksX1_book_6 0 rfl rfl)
theorem dX1_book_141 : decode cX1_book 141 = .ok (.iinc 4 1, 3) := dk_132 4 1 (dk_at dksX1_book_6 3 rfl rfl)
theorem dX1_book_144 : decode cX1_book 144 = .ok (.goto (-109), 3) := dk_167 255 147 (dk_at dksX1_book_6 6 rfl rfl)
theorem dX1_book_147 : decode cX1_book 147 = .ok (.goto 12, 3) := dk_167 0 12 (dk_at dksX1_book_6 9 rfl rfl)
theorem dX1_book_150 : decode cX1_book 150 = .ok (.astore 5, 2) := dk_58 5 (dk_at dksX1_book_6 12 rfl rfl)
theorem dX1_book_152 : decode cX1_book 152 = .ok (.aload_n 0, 1) := dk_42 (dk_at dksX1_book_6 14 rfl rfl)
theorem dX1_book_153 : decode cX1_book 153 = .ok (.aload 5, 2) := dk_25 5 (dk_at dksX1_book_6 15 rfl rfl)
theorem dX1_book_155 : decode cX1_book 155 = .ok (.invokevirtual 148, 3) := dk_182 0 148 (dk_at dksX1_book_6 17 rfl rfl)
theorem dX1_book_158 : decode cX1_book 158 = .ok (.ireturn, 1) := dk_172 (dk_at dksX1_book_6 20 rfl rfl)
theorem dX1_book_159 : decode cX1_book 159 = .ok (.aload_n 0, 1) := dk_42 (dk_at dksX1_book_6 21 rfl rfl)
theorem dX1_book_160 : decode cX1_book 160 = .ok (.iload 4, 2) := dk_21 4 (dk_at dksX1_book_6 22 rfl rfl)
theorem dX1_book_162 : decode cX1_book 162 = .ok (.putfield 159, 3) := dk_181 0 159 (dk_at dksX1_book_7 0 rfl rfl)
theorem dX1_book_165 : decode cX1_book 165 = .ok (.aload_n 2, 1) := dk_44 (dk_at dksX1_book_7 3 rfl rfl)
theorem dX1_book_166 : decode cX1_book 166 = .ok (.iconst 0, 1) := dk_3 (dk_at dksX1_book_7 4 rfl rfl)
theorem dX1_book_167 : decode cX1_book 167 = .ok (.aload_n 0, 1) := dk_42 (dk_at dksX1_book_7 5 rfl rfl)
theorem dX1_book_168 : decode cX1_book 168 = .ok (.getfield 58, 3) := dk_180 0 58 (dk_at dksX1_book_7 6 rfl rfl)
theorem dX1_book_171 : decode cX1_book 171 = .ok (.iconst 0, 1) := dk_3 (dk_at dksX1_book_7 9 rfl rfl)
theorem dX1_book_172 : decode cX1_book 172 = .ok (.bipush 6, 2) := dk_16 6 (dk_at dksX1_book_7 10 rfl rfl)
theorem dX1_book_174 : decode cX1_book 174 = .ok (.invokestatic 221, 3) := dk_184 0 221 (dk_at dksX1_book_7 12 rfl rfl)
theorem dX1_book_177 : decode cX1_book 177 = .ok (.aload_n 3, 1) := dk_45 (dk_at dksX1_book_7 15 rfl rfl)
theorem dX1_book_178 : decode cX1_book 178 = .ok (.iconst 0, 1) := dk_3 (dk_at dksX1_book_7 16 rfl rfl)
theorem dX1_book_179 : decode cX1_book 179 = .ok (.aload_n 0, 1) := dk_42 (dk_at dksX1_book_7 17 rfl rfl)
theorem dX1_book_180 : decode cX1_book 180 = .ok (.getfield 61, 3) := dk_180 0 61 (dk_at dksX1_book_7 18 rfl rfl)
theorem dX1_book_183 : decode cX1_book 183 = .ok (.iconst 0, 1) := dk_3 (dk_at dksX1_book_7 21 rfl rfl)
theorem dX1_book_184 : decode cX1_book 184 = .ok (.bipush 6, 2) := dk_16 6 (dk_at dksX1_book_7 22 rfl rfl)
theorem dX1_book_186 : decode cX1_book 186 = .ok (.invokestatic 221, 3) := dk_184 0 221 (dk_at dksX1_book_8 0 rfl rfl)
theorem dX1_book_189 : decode cX1_book 189 = .ok (.aload_n 0, 1) := dk_42 (dk_at dksX1_book_8 3 rfl rfl)
theorem dX1_book_190 : decode cX1_book 190 = .ok (.getfield 159, 3) := dk_180 0 159 (dk_at dksX1_book_8 4 rfl rfl)
theorem dX1_book_193 : decode cX1_book 193 = .ok (.ireturn, 1) := dk_172 (dk_at dksX1_book_8 7 rfl rfl)
abbrev cX1_told : ByteArray := prog_1_method_15_code
def yX1_told : MethodName := ⟨RX1, "told", "(I)I"⟩
def dkwX1_told_8 : List UInt8 := [132, 4, 1, 167, 255, 220, 29, 172]
abbrev dktX1_told_8 : List UInt8 := dkwX1_told_8 ++ []
def dkwX1_told_7 : List UInt8 := [162, 0, 30, 44, 180, 0, 248, 21, 4, 46, 44, 182, 0, 230, 164, 0, 10, 29, 4, 21, 4, 120, 128, 62]
abbrev dktX1_told_7 : List UInt8 := dkwX1_told_7 ++ dktX1_told_8
def dkwX1_told_6 : List UInt8 := [180, 0, 159, 172, 42, 180, 0, 162, 172, 3, 62, 3, 54, 4, 21, 4, 42, 180, 0, 83, 180, 0, 112]
abbrev dktX1_told_6 : List UInt8 := dkwX1_told_6 ++ dktX1_told_7
def dkwX1_told_5 : List UInt8 := [120, 128, 62, 132, 4, 1, 167, 255, 223, 29, 172, 44, 182, 0, 242, 172, 44, 182, 0, 245, 172, 42]
abbrev dktX1_told_5 : List UInt8 := dkwX1_told_5 ++ dktX1_told_6
def dkwX1_told_4 : List UInt8 := [180, 0, 83, 180, 0, 112, 162, 0, 27, 44, 180, 0, 239, 21, 4, 46, 2, 159, 0, 10, 29, 4, 21, 4]
abbrev dktX1_told_4 : List UInt8 := dkwX1_told_4 ++ dktX1_told_5
def dkwX1_told_3 : List UInt8 := [182, 0, 230, 172, 44, 180, 0, 233, 172, 44, 182, 0, 236, 172, 3, 62, 3, 54, 4, 21, 4, 42]
abbrev dktX1_told_3 : List UInt8 := dkwX1_told_3 ++ dktX1_told_4
def dkwX1_told_2 : List UInt8 := [42, 180, 0, 83, 180, 0, 105, 172, 42, 180, 0, 83, 180, 0, 112, 172, 44, 180, 0, 227, 172, 44]
abbrev dktX1_told_2 : List UInt8 := dkwX1_told_2 ++ dktX1_told_3
def dkwX1_told_1 : List UInt8 := [170, 0, 0, 0, 0, 0, 158, 0, 0, 0, 0, 0, 0, 0, 10, 0, 0, 0, 59, 0, 0, 0, 67, 0, 0, 0, 75, 0, 0, 0, 80, 0, 0, 0, 85, 0, 0, 0, 90, 0, 0, 0, 95, 0, 0, 0, 138, 0, 0, 0, 143, 0, 0, 0, 148, 0, 0, 0, 153]
abbrev dktX1_told_1 : List UInt8 := dkwX1_told_1 ++ dktX1_told_2
def dkwX1_told_0 : List UInt8 := [42, 27, 3, 16, 11, 182, 0, 131, 42, 180, 0, 25, 182, 0, 91, 77, 27]
abbrev dktX1_told_0 : List UInt8 := dkwX1_told_0 ++ dktX1_told_1
theorem dksX1_told_0 : cX1_told.data.toList.drop 0 = dktX1_told_0 := by decide +kernel
theorem dksX1_told_1 : cX1_told.data.toList.drop 17 = dktX1_told_1 := dk_seg dksX1_told_0 17 rfl rfl
theorem dksX1_told_2 : cX1_told.data.toList.drop 76 = dktX1_told_2 := dk_seg dksX1_told_1 59 rfl rfl
theorem dksX1_told_3 : cX1_told.data.toList.drop 98 = dktX1_told_3 := dk_seg dksX1_told_2 22 rfl rfl
theorem dksX1_told_4 : cX1_told.data.toList.drop 120 = dktX1_told_4 := dk_seg dksX1_told_3 22 rfl rfl
theorem dksX1_told_5 : cX1_told.data.toList.drop 144 = dktX1_told_5 := dk_seg dksX1_told_4 24 rfl rfl
theorem dksX1_told_6 : cX1_told.data.toList.drop 166 = dktX1_told_6 := dk_seg dksX1_told_5 22 rfl rfl
theorem dksX1_told_7 : cX1_told.data.toList.drop 189 = dktX1_told_7 := dk_seg dksX1_told_6 23 rfl rfl
theorem dksX1_told_8 : cX1_told.data.toList.drop 213 = dktX1_told_8 := dk_seg dksX1_told_7 24 rfl rfl
theorem dX1_told_0 : decode cX1_told 0 = .ok (.aload_n 0, 1) := dk_42 (dk_at dksX1_told_0 0 rfl rfl)
theorem dX1_told_1 : decode cX1_told 1 = .ok (.iload_n 1, 1) := dk_27 (dk_at dksX1_told_0 1 rfl rfl)
theorem dX1_told_2 : decode cX1_told 2 = .ok (.iconst 0, 1) := dk_3 (dk_at dksX1_told_0 2 rfl rfl)
theorem dX1_told_3 : decode cX1_told 3 = .ok (.bipush 11, 2) := dk_16 11 (dk_at dksX1_told_0 3 rfl rfl)
theorem dX1_told_5 : decode cX1_told 5 = .ok (.invokevirtual 131, 3) := dk_182 0 131 (dk_at dksX1_told_0 5 rfl rfl)
theorem dX1_told_8 : decode cX1_told 8 = .ok (.aload_n 0, 1) := dk_42 (dk_at dksX1_told_0 8 rfl rfl)
theorem dX1_told_9 : decode cX1_told 9 = .ok (.getfield 25, 3) := dk_180 0 25 (dk_at dksX1_told_0 9 rfl rfl)
theorem dX1_told_12 : decode cX1_told 12 = .ok (.invokevirtual 91, 3) := dk_182 0 91 (dk_at dksX1_told_0 12 rfl rfl)
theorem dX1_told_15 : decode cX1_told 15 = .ok (.astore_n 2, 1) := dk_77 (dk_at dksX1_told_0 15 rfl rfl)
theorem dX1_told_16 : decode cX1_told 16 = .ok (.iload_n 1, 1) := dk_27 (dk_at dksX1_told_0 16 rfl rfl)
theorem dX1_told_17 : decode cX1_told 17 = .ok (.tableswitch 158 0 10 #[59, 67, 75, 80, 85, 90, 95, 138, 143, 148, 153], 59) := by decide +kernel
theorem dX1_told_76 : decode cX1_told 76 = .ok (.aload_n 0, 1) := dk_42 (dk_at dksX1_told_2 0 rfl rfl)
theorem dX1_told_77 : decode cX1_told 77 = .ok (.getfield 83, 3) := dk_180 0 83 (dk_at dksX1_told_2 1 rfl rfl)
theorem dX1_told_80 : decode cX1_told 80 = .ok (.getfield 105, 3) := dk_180 0 105 (dk_at dksX1_told_2 4 rfl rfl)
theorem dX1_told_83 : decode cX1_told 83 = .ok (.ireturn, 1) := dk_172 (dk_at dksX1_told_2 7 rfl rfl)
theorem dX1_told_84 : decode cX1_told 84 = .ok (.aload_n 0, 1) := dk_42 (dk_at dksX1_told_2 8 rfl rfl)
theorem dX1_told_85 : decode cX1_told 85 = .ok (.getfield 83, 3) := dk_180 0 83 (dk_at dksX1_told_2 9 rfl rfl)
theorem dX1_told_88 : decode cX1_told 88 = .ok (.getfield 112, 3) := dk_180 0 112 (dk_at dksX1_told_2 12 rfl rfl)
theorem dX1_told_91 : decode cX1_told 91 = .ok (.ireturn, 1) := dk_172 (dk_at dksX1_told_2 15 rfl rfl)
theorem dX1_told_92 : decode cX1_told 92 = .ok (.aload_n 2, 1) := dk_44 (dk_at dksX1_told_2 16 rfl rfl)
theorem dX1_told_93 : decode cX1_told 93 = .ok (.getfield 227, 3) := dk_180 0 227 (dk_at dksX1_told_2 17 rfl rfl)
theorem dX1_told_96 : decode cX1_told 96 = .ok (.ireturn, 1) := dk_172 (dk_at dksX1_told_2 20 rfl rfl)
theorem dX1_told_97 : decode cX1_told 97 = .ok (.aload_n 2, 1) := dk_44 (dk_at dksX1_told_2 21 rfl rfl)
theorem dX1_told_98 : decode cX1_told 98 = .ok (.invokevirtual 230, 3) := dk_182 0 230 (dk_at dksX1_told_3 0 rfl rfl)
theorem dX1_told_101 : decode cX1_told 101 = .ok (.ireturn, 1) := dk_172 (dk_at dksX1_told_3 3 rfl rfl)
theorem dX1_told_102 : decode cX1_told 102 = .ok (.aload_n 2, 1) := dk_44 (dk_at dksX1_told_3 4 rfl rfl)
theorem dX1_told_103 : decode cX1_told 103 = .ok (.getfield 233, 3) := dk_180 0 233 (dk_at dksX1_told_3 5 rfl rfl)
theorem dX1_told_106 : decode cX1_told 106 = .ok (.ireturn, 1) := dk_172 (dk_at dksX1_told_3 8 rfl rfl)
theorem dX1_told_107 : decode cX1_told 107 = .ok (.aload_n 2, 1) := dk_44 (dk_at dksX1_told_3 9 rfl rfl)
theorem dX1_told_108 : decode cX1_told 108 = .ok (.invokevirtual 236, 3) := dk_182 0 236 (dk_at dksX1_told_3 10 rfl rfl)
theorem dX1_told_111 : decode cX1_told 111 = .ok (.ireturn, 1) := dk_172 (dk_at dksX1_told_3 13 rfl rfl)
theorem dX1_told_112 : decode cX1_told 112 = .ok (.iconst 0, 1) := dk_3 (dk_at dksX1_told_3 14 rfl rfl)
theorem dX1_told_113 : decode cX1_told 113 = .ok (.istore_n 3, 1) := dk_62 (dk_at dksX1_told_3 15 rfl rfl)
theorem dX1_told_114 : decode cX1_told 114 = .ok (.iconst 0, 1) := dk_3 (dk_at dksX1_told_3 16 rfl rfl)
theorem dX1_told_115 : decode cX1_told 115 = .ok (.istore 4, 2) := dk_54 4 (dk_at dksX1_told_3 17 rfl rfl)
theorem dX1_told_117 : decode cX1_told 117 = .ok (.iload 4, 2) := dk_21 4 (dk_at dksX1_told_3 19 rfl rfl)
theorem dX1_told_119 : decode cX1_told 119 = .ok (.aload_n 0, 1) := dk_42 (dk_at dksX1_told_3 21 rfl rfl)
theorem dX1_told_120 : decode cX1_told 120 = .ok (.getfield 83, 3) := dk_180 0 83 (dk_at dksX1_told_4 0 rfl rfl)
theorem dX1_told_123 : decode cX1_told 123 = .ok (.getfield 112, 3) := dk_180 0 112 (dk_at dksX1_told_4 3 rfl rfl)
theorem dX1_told_126 : decode cX1_told 126 = .ok (.if_icmp .ge 27, 3) := dk_162 0 27 (dk_at dksX1_told_4 6 rfl rfl)
theorem dX1_told_129 : decode cX1_told 129 = .ok (.aload_n 2, 1) := dk_44 (dk_at dksX1_told_4 9 rfl rfl)
theorem dX1_told_130 : decode cX1_told 130 = .ok (.getfield 239, 3) := dk_180 0 239 (dk_at dksX1_told_4 10 rfl rfl)
theorem dX1_told_133 : decode cX1_told 133 = .ok (.iload 4, 2) := dk_21 4 (dk_at dksX1_told_4 13 rfl rfl)
theorem dX1_told_135 : decode cX1_told 135 = .ok (.iaload, 1) := dk_46 (dk_at dksX1_told_4 15 rfl rfl)
theorem dX1_told_136 : decode cX1_told 136 = .ok (.iconst (-1), 1) := dk_2 (dk_at dksX1_told_4 16 rfl rfl)
theorem dX1_told_137 : decode cX1_told 137 = .ok (.if_icmp .eq 10, 3) := dk_159 0 10 (dk_at dksX1_told_4 17 rfl rfl)
theorem dX1_told_140 : decode cX1_told 140 = .ok (.iload_n 3, 1) := dk_29 (dk_at dksX1_told_4 20 rfl rfl)
theorem dX1_told_141 : decode cX1_told 141 = .ok (.iconst 1, 1) := dk_4 (dk_at dksX1_told_4 21 rfl rfl)
theorem dX1_told_142 : decode cX1_told 142 = .ok (.iload 4, 2) := dk_21 4 (dk_at dksX1_told_4 22 rfl rfl)
theorem dX1_told_144 : decode cX1_told 144 = .ok (.ishl, 1) := dk_120 (dk_at dksX1_told_5 0 rfl rfl)
theorem dX1_told_145 : decode cX1_told 145 = .ok (.ior, 1) := dk_128 (dk_at dksX1_told_5 1 rfl rfl)
theorem dX1_told_146 : decode cX1_told 146 = .ok (.istore_n 3, 1) := dk_62 (dk_at dksX1_told_5 2 rfl rfl)
theorem dX1_told_147 : decode cX1_told 147 = .ok (.iinc 4 1, 3) := dk_132 4 1 (dk_at dksX1_told_5 3 rfl rfl)
theorem dX1_told_150 : decode cX1_told 150 = .ok (.goto (-33), 3) := dk_167 255 223 (dk_at dksX1_told_5 6 rfl rfl)
theorem dX1_told_153 : decode cX1_told 153 = .ok (.iload_n 3, 1) := dk_29 (dk_at dksX1_told_5 9 rfl rfl)
theorem dX1_told_154 : decode cX1_told 154 = .ok (.ireturn, 1) := dk_172 (dk_at dksX1_told_5 10 rfl rfl)
theorem dX1_told_155 : decode cX1_told 155 = .ok (.aload_n 2, 1) := dk_44 (dk_at dksX1_told_5 11 rfl rfl)
theorem dX1_told_156 : decode cX1_told 156 = .ok (.invokevirtual 242, 3) := dk_182 0 242 (dk_at dksX1_told_5 12 rfl rfl)
theorem dX1_told_159 : decode cX1_told 159 = .ok (.ireturn, 1) := dk_172 (dk_at dksX1_told_5 15 rfl rfl)
theorem dX1_told_160 : decode cX1_told 160 = .ok (.aload_n 2, 1) := dk_44 (dk_at dksX1_told_5 16 rfl rfl)
theorem dX1_told_161 : decode cX1_told 161 = .ok (.invokevirtual 245, 3) := dk_182 0 245 (dk_at dksX1_told_5 17 rfl rfl)
theorem dX1_told_164 : decode cX1_told 164 = .ok (.ireturn, 1) := dk_172 (dk_at dksX1_told_5 20 rfl rfl)
theorem dX1_told_165 : decode cX1_told 165 = .ok (.aload_n 0, 1) := dk_42 (dk_at dksX1_told_5 21 rfl rfl)
theorem dX1_told_166 : decode cX1_told 166 = .ok (.getfield 159, 3) := dk_180 0 159 (dk_at dksX1_told_6 0 rfl rfl)
theorem dX1_told_169 : decode cX1_told 169 = .ok (.ireturn, 1) := dk_172 (dk_at dksX1_told_6 3 rfl rfl)
theorem dX1_told_170 : decode cX1_told 170 = .ok (.aload_n 0, 1) := dk_42 (dk_at dksX1_told_6 4 rfl rfl)
theorem dX1_told_171 : decode cX1_told 171 = .ok (.getfield 162, 3) := dk_180 0 162 (dk_at dksX1_told_6 5 rfl rfl)
theorem dX1_told_174 : decode cX1_told 174 = .ok (.ireturn, 1) := dk_172 (dk_at dksX1_told_6 8 rfl rfl)
theorem dX1_told_175 : decode cX1_told 175 = .ok (.iconst 0, 1) := dk_3 (dk_at dksX1_told_6 9 rfl rfl)
theorem dX1_told_176 : decode cX1_told 176 = .ok (.istore_n 3, 1) := dk_62 (dk_at dksX1_told_6 10 rfl rfl)
theorem dX1_told_177 : decode cX1_told 177 = .ok (.iconst 0, 1) := dk_3 (dk_at dksX1_told_6 11 rfl rfl)
theorem dX1_told_178 : decode cX1_told 178 = .ok (.istore 4, 2) := dk_54 4 (dk_at dksX1_told_6 12 rfl rfl)
theorem dX1_told_180 : decode cX1_told 180 = .ok (.iload 4, 2) := dk_21 4 (dk_at dksX1_told_6 14 rfl rfl)
theorem dX1_told_182 : decode cX1_told 182 = .ok (.aload_n 0, 1) := dk_42 (dk_at dksX1_told_6 16 rfl rfl)
theorem dX1_told_183 : decode cX1_told 183 = .ok (.getfield 83, 3) := dk_180 0 83 (dk_at dksX1_told_6 17 rfl rfl)
theorem dX1_told_186 : decode cX1_told 186 = .ok (.getfield 112, 3) := dk_180 0 112 (dk_at dksX1_told_6 20 rfl rfl)
theorem dX1_told_189 : decode cX1_told 189 = .ok (.if_icmp .ge 30, 3) := dk_162 0 30 (dk_at dksX1_told_7 0 rfl rfl)
theorem dX1_told_192 : decode cX1_told 192 = .ok (.aload_n 2, 1) := dk_44 (dk_at dksX1_told_7 3 rfl rfl)
theorem dX1_told_193 : decode cX1_told 193 = .ok (.getfield 248, 3) := dk_180 0 248 (dk_at dksX1_told_7 4 rfl rfl)
theorem dX1_told_196 : decode cX1_told 196 = .ok (.iload 4, 2) := dk_21 4 (dk_at dksX1_told_7 7 rfl rfl)
theorem dX1_told_198 : decode cX1_told 198 = .ok (.iaload, 1) := dk_46 (dk_at dksX1_told_7 9 rfl rfl)
theorem dX1_told_199 : decode cX1_told 199 = .ok (.aload_n 2, 1) := dk_44 (dk_at dksX1_told_7 10 rfl rfl)
theorem dX1_told_200 : decode cX1_told 200 = .ok (.invokevirtual 230, 3) := dk_182 0 230 (dk_at dksX1_told_7 11 rfl rfl)
theorem dX1_told_203 : decode cX1_told 203 = .ok (.if_icmp .le 10, 3) := dk_164 0 10 (dk_at dksX1_told_7 14 rfl rfl)
theorem dX1_told_206 : decode cX1_told 206 = .ok (.iload_n 3, 1) := dk_29 (dk_at dksX1_told_7 17 rfl rfl)
theorem dX1_told_207 : decode cX1_told 207 = .ok (.iconst 1, 1) := dk_4 (dk_at dksX1_told_7 18 rfl rfl)
theorem dX1_told_208 : decode cX1_told 208 = .ok (.iload 4, 2) := dk_21 4 (dk_at dksX1_told_7 19 rfl rfl)
theorem dX1_told_210 : decode cX1_told 210 = .ok (.ishl, 1) := dk_120 (dk_at dksX1_told_7 21 rfl rfl)
theorem dX1_told_211 : decode cX1_told 211 = .ok (.ior, 1) := dk_128 (dk_at dksX1_told_7 22 rfl rfl)
theorem dX1_told_212 : decode cX1_told 212 = .ok (.istore_n 3, 1) := dk_62 (dk_at dksX1_told_7 23 rfl rfl)
theorem dX1_told_213 : decode cX1_told 213 = .ok (.iinc 4 1, 3) := dk_132 4 1 (dk_at dksX1_told_8 0 rfl rfl)
theorem dX1_told_216 : decode cX1_told 216 = .ok (.goto (-36), 3) := dk_167 255 220 (dk_at dksX1_told_8 3 rfl rfl)
theorem dX1_told_219 : decode cX1_told 219 = .ok (.iload_n 3, 1) := dk_29 (dk_at dksX1_told_8 6 rfl rfl)
theorem dX1_told_220 : decode cX1_told 220 = .ok (.ireturn, 1) := dk_172 (dk_at dksX1_told_8 7 rfl rfl)
abbrev cX1_board : ByteArray := prog_1_method_16_code
def yX1_board : MethodName := ⟨RX1, "board", "(II)I"⟩
def dkwX1_board_5 : List UInt8 := [132, 5, 1, 167, 255, 221, 21, 4, 172]
abbrev dktX1_board_5 : List UInt8 := dkwX1_board_5 ++ []
def dkwX1_board_4 : List UInt8 := [162, 0, 29, 45, 180, 0, 239, 21, 5, 46, 27, 160, 0, 12, 21, 4, 4, 21, 5, 120, 128, 54, 4]
abbrev dktX1_board_4 : List UInt8 := dkwX1_board_4 ++ dktX1_board_5
def dkwX1_board_3 : List UInt8 := [27, 46, 172, 45, 27, 182, 1, 6, 172, 3, 54, 4, 3, 54, 5, 21, 5, 42, 180, 0, 83, 180, 0, 112]
abbrev dktX1_board_3 : List UInt8 := dkwX1_board_3 ++ dktX1_board_4
def dkwX1_board_2 : List UInt8 := [42, 180, 0, 83, 180, 0, 255, 27, 46, 172, 42, 180, 0, 83, 180, 1, 2, 27, 46, 172, 45, 180, 1, 5]
abbrev dktX1_board_2 : List UInt8 := dkwX1_board_2 ++ dktX1_board_3
def dkwX1_board_1 : List UInt8 := [170, 0, 0, 0, 0, 0, 64, 0, 0, 0, 0, 0, 0, 0, 3, 0, 0, 0, 31, 0, 0, 0, 41, 0, 0, 0, 51, 0, 0, 0, 58]
abbrev dktX1_board_1 : List UInt8 := dkwX1_board_1 ++ dktX1_board_2
def dkwX1_board_0 : List UInt8 := [42, 27, 182, 0, 251, 42, 28, 3, 7, 182, 0, 131, 42, 180, 0, 25, 182, 0, 91, 78, 28]
abbrev dktX1_board_0 : List UInt8 := dkwX1_board_0 ++ dktX1_board_1
theorem dksX1_board_0 : cX1_board.data.toList.drop 0 = dktX1_board_0 := by decide +kernel
theorem dksX1_board_1 : cX1_board.data.toList.drop 21 = dktX1_board_1 := dk_seg dksX1_board_0 21 rfl rfl
theorem dksX1_board_2 : cX1_board.data.toList.drop 52 = dktX1_board_2 := dk_seg dksX1_board_1 31 rfl rfl
theorem dksX1_board_3 : cX1_board.data.toList.drop 76 = dktX1_board_3 := dk_seg dksX1_board_2 24 rfl rfl
theorem dksX1_board_4 : cX1_board.data.toList.drop 100 = dktX1_board_4 := dk_seg dksX1_board_3 24 rfl rfl
theorem dksX1_board_5 : cX1_board.data.toList.drop 123 = dktX1_board_5 := dk_seg dksX1_board_4 23 rfl rfl
theorem dX1_board_0 : decode cX1_board 0 = .ok (.aload_n 0, 1) := dk_42 (dk_at dksX1_board_0 0 rfl rfl)
theorem dX1_board_1 : decode cX1_board 1 = .ok (.iload_n 1, 1) := dk_27 (dk_at dksX1_board_0 1 rfl rfl)
theorem dX1_board_2 : decode cX1_board 2 = .ok (.invokevirtual 251, 3) := dk_182 0 251 (dk_at dksX1_board_0 2 rfl rfl)
theorem dX1_board_5 : decode cX1_board 5 = .ok (.aload_n 0, 1) := dk_42 (dk_at dksX1_board_0 5 rfl rfl)
theorem dX1_board_6 : decode cX1_board 6 = .ok (.iload_n 2, 1) := dk_28 (dk_at dksX1_board_0 6 rfl rfl)
theorem dX1_board_7 : decode cX1_board 7 = .ok (.iconst 0, 1) := dk_3 (dk_at dksX1_board_0 7 rfl rfl)
theorem dX1_board_8 : decode cX1_board 8 = .ok (.iconst 4, 1) := dk_7 (dk_at dksX1_board_0 8 rfl rfl)
theorem dX1_board_9 : decode cX1_board 9 = .ok (.invokevirtual 131, 3) := dk_182 0 131 (dk_at dksX1_board_0 9 rfl rfl)
theorem dX1_board_12 : decode cX1_board 12 = .ok (.aload_n 0, 1) := dk_42 (dk_at dksX1_board_0 12 rfl rfl)
theorem dX1_board_13 : decode cX1_board 13 = .ok (.getfield 25, 3) := dk_180 0 25 (dk_at dksX1_board_0 13 rfl rfl)
theorem dX1_board_16 : decode cX1_board 16 = .ok (.invokevirtual 91, 3) := dk_182 0 91 (dk_at dksX1_board_0 16 rfl rfl)
theorem dX1_board_19 : decode cX1_board 19 = .ok (.astore_n 3, 1) := dk_78 (dk_at dksX1_board_0 19 rfl rfl)
theorem dX1_board_20 : decode cX1_board 20 = .ok (.iload_n 2, 1) := dk_28 (dk_at dksX1_board_0 20 rfl rfl)
theorem dX1_board_21 : decode cX1_board 21 = .ok (.tableswitch 64 0 3 #[31, 41, 51, 58], 31) := by decide +kernel
theorem dX1_board_52 : decode cX1_board 52 = .ok (.aload_n 0, 1) := dk_42 (dk_at dksX1_board_2 0 rfl rfl)
theorem dX1_board_53 : decode cX1_board 53 = .ok (.getfield 83, 3) := dk_180 0 83 (dk_at dksX1_board_2 1 rfl rfl)
theorem dX1_board_56 : decode cX1_board 56 = .ok (.getfield 255, 3) := dk_180 0 255 (dk_at dksX1_board_2 4 rfl rfl)
theorem dX1_board_59 : decode cX1_board 59 = .ok (.iload_n 1, 1) := dk_27 (dk_at dksX1_board_2 7 rfl rfl)
theorem dX1_board_60 : decode cX1_board 60 = .ok (.iaload, 1) := dk_46 (dk_at dksX1_board_2 8 rfl rfl)
theorem dX1_board_61 : decode cX1_board 61 = .ok (.ireturn, 1) := dk_172 (dk_at dksX1_board_2 9 rfl rfl)
theorem dX1_board_62 : decode cX1_board 62 = .ok (.aload_n 0, 1) := dk_42 (dk_at dksX1_board_2 10 rfl rfl)
theorem dX1_board_63 : decode cX1_board 63 = .ok (.getfield 83, 3) := dk_180 0 83 (dk_at dksX1_board_2 11 rfl rfl)
theorem dX1_board_66 : decode cX1_board 66 = .ok (.getfield 258, 3) := dk_180 1 2 (dk_at dksX1_board_2 14 rfl rfl)
theorem dX1_board_69 : decode cX1_board 69 = .ok (.iload_n 1, 1) := dk_27 (dk_at dksX1_board_2 17 rfl rfl)
theorem dX1_board_70 : decode cX1_board 70 = .ok (.iaload, 1) := dk_46 (dk_at dksX1_board_2 18 rfl rfl)
theorem dX1_board_71 : decode cX1_board 71 = .ok (.ireturn, 1) := dk_172 (dk_at dksX1_board_2 19 rfl rfl)
theorem dX1_board_72 : decode cX1_board 72 = .ok (.aload_n 3, 1) := dk_45 (dk_at dksX1_board_2 20 rfl rfl)
theorem dX1_board_73 : decode cX1_board 73 = .ok (.getfield 261, 3) := dk_180 1 5 (dk_at dksX1_board_2 21 rfl rfl)
theorem dX1_board_76 : decode cX1_board 76 = .ok (.iload_n 1, 1) := dk_27 (dk_at dksX1_board_3 0 rfl rfl)
theorem dX1_board_77 : decode cX1_board 77 = .ok (.iaload, 1) := dk_46 (dk_at dksX1_board_3 1 rfl rfl)
theorem dX1_board_78 : decode cX1_board 78 = .ok (.ireturn, 1) := dk_172 (dk_at dksX1_board_3 2 rfl rfl)
theorem dX1_board_79 : decode cX1_board 79 = .ok (.aload_n 3, 1) := dk_45 (dk_at dksX1_board_3 3 rfl rfl)
theorem dX1_board_80 : decode cX1_board 80 = .ok (.iload_n 1, 1) := dk_27 (dk_at dksX1_board_3 4 rfl rfl)
theorem dX1_board_81 : decode cX1_board 81 = .ok (.invokevirtual 262, 3) := dk_182 1 6 (dk_at dksX1_board_3 5 rfl rfl)
theorem dX1_board_84 : decode cX1_board 84 = .ok (.ireturn, 1) := dk_172 (dk_at dksX1_board_3 8 rfl rfl)
theorem dX1_board_85 : decode cX1_board 85 = .ok (.iconst 0, 1) := dk_3 (dk_at dksX1_board_3 9 rfl rfl)
theorem dX1_board_86 : decode cX1_board 86 = .ok (.istore 4, 2) := dk_54 4 (dk_at dksX1_board_3 10 rfl rfl)
theorem dX1_board_88 : decode cX1_board 88 = .ok (.iconst 0, 1) := dk_3 (dk_at dksX1_board_3 12 rfl rfl)
theorem dX1_board_89 : decode cX1_board 89 = .ok (.istore 5, 2) := dk_54 5 (dk_at dksX1_board_3 13 rfl rfl)
theorem dX1_board_91 : decode cX1_board 91 = .ok (.iload 5, 2) := dk_21 5 (dk_at dksX1_board_3 15 rfl rfl)
theorem dX1_board_93 : decode cX1_board 93 = .ok (.aload_n 0, 1) := dk_42 (dk_at dksX1_board_3 17 rfl rfl)
theorem dX1_board_94 : decode cX1_board 94 = .ok (.getfield 83, 3) := dk_180 0 83 (dk_at dksX1_board_3 18 rfl rfl)
theorem dX1_board_97 : decode cX1_board 97 = .ok (.getfield 112, 3) := dk_180 0 112 (dk_at dksX1_board_3 21 rfl rfl)
theorem dX1_board_100 : decode cX1_board 100 = .ok (.if_icmp .ge 29, 3) := dk_162 0 29 (dk_at dksX1_board_4 0 rfl rfl)
theorem dX1_board_103 : decode cX1_board 103 = .ok (.aload_n 3, 1) := dk_45 (dk_at dksX1_board_4 3 rfl rfl)
theorem dX1_board_104 : decode cX1_board 104 = .ok (.getfield 239, 3) := dk_180 0 239 (dk_at dksX1_board_4 4 rfl rfl)
theorem dX1_board_107 : decode cX1_board 107 = .ok (.iload 5, 2) := dk_21 5 (dk_at dksX1_board_4 7 rfl rfl)
theorem dX1_board_109 : decode cX1_board 109 = .ok (.iaload, 1) := dk_46 (dk_at dksX1_board_4 9 rfl rfl)
theorem dX1_board_110 : decode cX1_board 110 = .ok (.iload_n 1, 1) := dk_27 (dk_at dksX1_board_4 10 rfl rfl)
theorem dX1_board_111 : decode cX1_board 111 = .ok (.if_icmp .ne 12, 3) := dk_160 0 12 (dk_at dksX1_board_4 11 rfl rfl)
theorem dX1_board_114 : decode cX1_board 114 = .ok (.iload 4, 2) := dk_21 4 (dk_at dksX1_board_4 14 rfl rfl)
theorem dX1_board_116 : decode cX1_board 116 = .ok (.iconst 1, 1) := dk_4 (dk_at dksX1_board_4 16 rfl rfl)
theorem dX1_board_117 : decode cX1_board 117 = .ok (.iload 5, 2) := dk_21 5 (dk_at dksX1_board_4 17 rfl rfl)
theorem dX1_board_119 : decode cX1_board 119 = .ok (.ishl, 1) := dk_120 (dk_at dksX1_board_4 19 rfl rfl)
theorem dX1_board_120 : decode cX1_board 120 = .ok (.ior, 1) := dk_128 (dk_at dksX1_board_4 20 rfl rfl)
theorem dX1_board_121 : decode cX1_board 121 = .ok (.istore 4, 2) := dk_54 4 (dk_at dksX1_board_4 21 rfl rfl)
theorem dX1_board_123 : decode cX1_board 123 = .ok (.iinc 5 1, 3) := dk_132 5 1 (dk_at dksX1_board_5 0 rfl rfl)
theorem dX1_board_126 : decode cX1_board 126 = .ok (.goto (-35), 3) := dk_167 255 221 (dk_at dksX1_board_5 3 rfl rfl)
theorem dX1_board_129 : decode cX1_board 129 = .ok (.iload 4, 2) := dk_21 4 (dk_at dksX1_board_5 6 rfl rfl)
theorem dX1_board_131 : decode cX1_board 131 = .ok (.ireturn, 1) := dk_172 (dk_at dksX1_board_5 8 rfl rfl)
abbrev cX1_boardOf : ByteArray := prog_1_method_4_code
def yX1_boardOf : MethodName := ⟨RX1, "boardOf", "(I)V"⟩
def dkwX1_boardOf_0 : List UInt8 := [42, 27, 42, 180, 0, 83, 180, 0, 105, 182, 0, 108, 177]
abbrev dktX1_boardOf_0 : List UInt8 := dkwX1_boardOf_0 ++ []
theorem dksX1_boardOf_0 : cX1_boardOf.data.toList.drop 0 = dktX1_boardOf_0 := by decide +kernel
theorem dX1_boardOf_0 : decode cX1_boardOf 0 = .ok (.aload_n 0, 1) := dk_42 (dk_at dksX1_boardOf_0 0 rfl rfl)
theorem dX1_boardOf_1 : decode cX1_boardOf 1 = .ok (.iload_n 1, 1) := dk_27 (dk_at dksX1_boardOf_0 1 rfl rfl)
theorem dX1_boardOf_2 : decode cX1_boardOf 2 = .ok (.aload_n 0, 1) := dk_42 (dk_at dksX1_boardOf_0 2 rfl rfl)
theorem dX1_boardOf_3 : decode cX1_boardOf 3 = .ok (.getfield 83, 3) := dk_180 0 83 (dk_at dksX1_boardOf_0 3 rfl rfl)
theorem dX1_boardOf_6 : decode cX1_boardOf 6 = .ok (.getfield 105, 3) := dk_180 0 105 (dk_at dksX1_boardOf_0 6 rfl rfl)
theorem dX1_boardOf_9 : decode cX1_boardOf 9 = .ok (.invokevirtual 108, 3) := dk_182 0 108 (dk_at dksX1_boardOf_0 9 rfl rfl)
theorem dX1_boardOf_12 : decode cX1_boardOf 12 = .ok (.return_, 1) := dk_177 (dk_at dksX1_boardOf_0 12 rfl rfl)
abbrev cX1_oneOf : ByteArray := prog_1_method_2_code
def yX1_oneOf : MethodName := ⟨RX1, "oneOf", "(II)V"⟩
def dkwX1_oneOf_1 : List UInt8 := [183, 0, 101, 191]
abbrev dktX1_oneOf_1 : List UInt8 := dkwX1_oneOf_1 ++ []
def dkwX1_oneOf_0 : List UInt8 := [27, 155, 0, 9, 27, 28, 162, 0, 4, 177, 42, 180, 0, 54, 3, 92, 46, 4, 96, 79, 187, 0, 99, 89]
abbrev dktX1_oneOf_0 : List UInt8 := dkwX1_oneOf_0 ++ dktX1_oneOf_1
theorem dksX1_oneOf_0 : cX1_oneOf.data.toList.drop 0 = dktX1_oneOf_0 := by decide +kernel
theorem dksX1_oneOf_1 : cX1_oneOf.data.toList.drop 24 = dktX1_oneOf_1 := dk_seg dksX1_oneOf_0 24 rfl rfl
theorem dX1_oneOf_0 : decode cX1_oneOf 0 = .ok (.iload_n 1, 1) := dk_27 (dk_at dksX1_oneOf_0 0 rfl rfl)
theorem dX1_oneOf_1 : decode cX1_oneOf 1 = .ok (.ifCond .lt 9, 3) := dk_155 0 9 (dk_at dksX1_oneOf_0 1 rfl rfl)
theorem dX1_oneOf_4 : decode cX1_oneOf 4 = .ok (.iload_n 1, 1) := dk_27 (dk_at dksX1_oneOf_0 4 rfl rfl)
theorem dX1_oneOf_5 : decode cX1_oneOf 5 = .ok (.iload_n 2, 1) := dk_28 (dk_at dksX1_oneOf_0 5 rfl rfl)
theorem dX1_oneOf_6 : decode cX1_oneOf 6 = .ok (.if_icmp .ge 4, 3) := dk_162 0 4 (dk_at dksX1_oneOf_0 6 rfl rfl)
theorem dX1_oneOf_9 : decode cX1_oneOf 9 = .ok (.return_, 1) := dk_177 (dk_at dksX1_oneOf_0 9 rfl rfl)
theorem dX1_oneOf_10 : decode cX1_oneOf 10 = .ok (.aload_n 0, 1) := dk_42 (dk_at dksX1_oneOf_0 10 rfl rfl)
theorem dX1_oneOf_11 : decode cX1_oneOf 11 = .ok (.getfield 54, 3) := dk_180 0 54 (dk_at dksX1_oneOf_0 11 rfl rfl)
theorem dX1_oneOf_14 : decode cX1_oneOf 14 = .ok (.iconst 0, 1) := dk_3 (dk_at dksX1_oneOf_0 14 rfl rfl)
theorem dX1_oneOf_15 : decode cX1_oneOf 15 = .ok (.dup2, 1) := dk_92 (dk_at dksX1_oneOf_0 15 rfl rfl)
theorem dX1_oneOf_16 : decode cX1_oneOf 16 = .ok (.iaload, 1) := dk_46 (dk_at dksX1_oneOf_0 16 rfl rfl)
theorem dX1_oneOf_17 : decode cX1_oneOf 17 = .ok (.iconst 1, 1) := dk_4 (dk_at dksX1_oneOf_0 17 rfl rfl)
theorem dX1_oneOf_18 : decode cX1_oneOf 18 = .ok (.iadd, 1) := dk_96 (dk_at dksX1_oneOf_0 18 rfl rfl)
theorem dX1_oneOf_19 : decode cX1_oneOf 19 = .ok (.iastore, 1) := dk_79 (dk_at dksX1_oneOf_0 19 rfl rfl)
theorem dX1_oneOf_20 : decode cX1_oneOf 20 = .ok (.new 99, 3) := dk_187 0 99 (dk_at dksX1_oneOf_0 20 rfl rfl)
theorem dX1_oneOf_23 : decode cX1_oneOf 23 = .ok (.dup, 1) := dk_89 (dk_at dksX1_oneOf_0 23 rfl rfl)
theorem dX1_oneOf_24 : decode cX1_oneOf 24 = .ok (.invokespecial 101, 3) := dk_183 0 101 (dk_at dksX1_oneOf_1 0 rfl rfl)
theorem dX1_oneOf_27 : decode cX1_oneOf 27 = .ok (.athrow, 1) := dk_191 (dk_at dksX1_oneOf_1 3 rfl rfl)
abbrev cX1_boy : ByteArray := prog_1_method_17_code
def yX1_boy : MethodName := ⟨RX1, "boy", "(II)I"⟩
def dkwX1_boy_4 : List UInt8 := [42, 180, 0, 83, 180, 1, 26, 27, 46, 172, 45, 180, 1, 29, 27, 46, 172]
abbrev dktX1_boy_4 : List UInt8 := dkwX1_boy_4 ++ []
def dkwX1_boy_3 : List UInt8 := [182, 1, 16, 172, 45, 27, 182, 1, 19, 172, 45, 27, 182, 1, 22, 153, 0, 7, 4, 167, 0, 4, 3, 172]
abbrev dktX1_boy_3 : List UInt8 := dkwX1_boy_3 ++ dktX1_boy_4
def dkwX1_boy_2 : List UInt8 := [45, 180, 0, 248, 27, 46, 172, 45, 180, 1, 13, 27, 46, 172, 45, 180, 0, 239, 27, 46, 172, 45, 27]
abbrev dktX1_boy_2 : List UInt8 := dkwX1_boy_2 ++ dktX1_boy_3
def dkwX1_boy_1 : List UInt8 := [170, 0, 0, 0, 0, 99, 0, 0, 0, 0, 0, 0, 0, 6, 0, 0, 0, 42, 0, 0, 0, 49, 0, 0, 0, 56, 0, 0, 0, 63, 0, 0, 0, 69, 0, 0, 0, 75, 0, 0, 0, 89]
abbrev dktX1_boy_1 : List UInt8 := dkwX1_boy_1 ++ dktX1_boy_2
def dkwX1_boy_0 : List UInt8 := [42, 27, 182, 1, 10, 42, 28, 3, 16, 7, 182, 0, 131, 42, 180, 0, 25, 182, 0, 91, 78, 28]
abbrev dktX1_boy_0 : List UInt8 := dkwX1_boy_0 ++ dktX1_boy_1
theorem dksX1_boy_0 : cX1_boy.data.toList.drop 0 = dktX1_boy_0 := by decide +kernel
theorem dksX1_boy_1 : cX1_boy.data.toList.drop 22 = dktX1_boy_1 := dk_seg dksX1_boy_0 22 rfl rfl
theorem dksX1_boy_2 : cX1_boy.data.toList.drop 64 = dktX1_boy_2 := dk_seg dksX1_boy_1 42 rfl rfl
theorem dksX1_boy_3 : cX1_boy.data.toList.drop 87 = dktX1_boy_3 := dk_seg dksX1_boy_2 23 rfl rfl
theorem dksX1_boy_4 : cX1_boy.data.toList.drop 111 = dktX1_boy_4 := dk_seg dksX1_boy_3 24 rfl rfl
theorem dX1_boy_0 : decode cX1_boy 0 = .ok (.aload_n 0, 1) := dk_42 (dk_at dksX1_boy_0 0 rfl rfl)
theorem dX1_boy_1 : decode cX1_boy 1 = .ok (.iload_n 1, 1) := dk_27 (dk_at dksX1_boy_0 1 rfl rfl)
theorem dX1_boy_2 : decode cX1_boy 2 = .ok (.invokevirtual 266, 3) := dk_182 1 10 (dk_at dksX1_boy_0 2 rfl rfl)
theorem dX1_boy_5 : decode cX1_boy 5 = .ok (.aload_n 0, 1) := dk_42 (dk_at dksX1_boy_0 5 rfl rfl)
theorem dX1_boy_6 : decode cX1_boy 6 = .ok (.iload_n 2, 1) := dk_28 (dk_at dksX1_boy_0 6 rfl rfl)
theorem dX1_boy_7 : decode cX1_boy 7 = .ok (.iconst 0, 1) := dk_3 (dk_at dksX1_boy_0 7 rfl rfl)
theorem dX1_boy_8 : decode cX1_boy 8 = .ok (.bipush 7, 2) := dk_16 7 (dk_at dksX1_boy_0 8 rfl rfl)
theorem dX1_boy_10 : decode cX1_boy 10 = .ok (.invokevirtual 131, 3) := dk_182 0 131 (dk_at dksX1_boy_0 10 rfl rfl)
theorem dX1_boy_13 : decode cX1_boy 13 = .ok (.aload_n 0, 1) := dk_42 (dk_at dksX1_boy_0 13 rfl rfl)
theorem dX1_boy_14 : decode cX1_boy 14 = .ok (.getfield 25, 3) := dk_180 0 25 (dk_at dksX1_boy_0 14 rfl rfl)
theorem dX1_boy_17 : decode cX1_boy 17 = .ok (.invokevirtual 91, 3) := dk_182 0 91 (dk_at dksX1_boy_0 17 rfl rfl)
theorem dX1_boy_20 : decode cX1_boy 20 = .ok (.astore_n 3, 1) := dk_78 (dk_at dksX1_boy_0 20 rfl rfl)
theorem dX1_boy_21 : decode cX1_boy 21 = .ok (.iload_n 2, 1) := dk_28 (dk_at dksX1_boy_0 21 rfl rfl)
theorem dX1_boy_22 : decode cX1_boy 22 = .ok (.tableswitch 99 0 6 #[42, 49, 56, 63, 69, 75, 89], 42) := by decide +kernel
theorem dX1_boy_64 : decode cX1_boy 64 = .ok (.aload_n 3, 1) := dk_45 (dk_at dksX1_boy_2 0 rfl rfl)
theorem dX1_boy_65 : decode cX1_boy 65 = .ok (.getfield 248, 3) := dk_180 0 248 (dk_at dksX1_boy_2 1 rfl rfl)
theorem dX1_boy_68 : decode cX1_boy 68 = .ok (.iload_n 1, 1) := dk_27 (dk_at dksX1_boy_2 4 rfl rfl)
theorem dX1_boy_69 : decode cX1_boy 69 = .ok (.iaload, 1) := dk_46 (dk_at dksX1_boy_2 5 rfl rfl)
theorem dX1_boy_70 : decode cX1_boy 70 = .ok (.ireturn, 1) := dk_172 (dk_at dksX1_boy_2 6 rfl rfl)
theorem dX1_boy_71 : decode cX1_boy 71 = .ok (.aload_n 3, 1) := dk_45 (dk_at dksX1_boy_2 7 rfl rfl)
theorem dX1_boy_72 : decode cX1_boy 72 = .ok (.getfield 269, 3) := dk_180 1 13 (dk_at dksX1_boy_2 8 rfl rfl)
theorem dX1_boy_75 : decode cX1_boy 75 = .ok (.iload_n 1, 1) := dk_27 (dk_at dksX1_boy_2 11 rfl rfl)
theorem dX1_boy_76 : decode cX1_boy 76 = .ok (.iaload, 1) := dk_46 (dk_at dksX1_boy_2 12 rfl rfl)
theorem dX1_boy_77 : decode cX1_boy 77 = .ok (.ireturn, 1) := dk_172 (dk_at dksX1_boy_2 13 rfl rfl)
theorem dX1_boy_78 : decode cX1_boy 78 = .ok (.aload_n 3, 1) := dk_45 (dk_at dksX1_boy_2 14 rfl rfl)
theorem dX1_boy_79 : decode cX1_boy 79 = .ok (.getfield 239, 3) := dk_180 0 239 (dk_at dksX1_boy_2 15 rfl rfl)
theorem dX1_boy_82 : decode cX1_boy 82 = .ok (.iload_n 1, 1) := dk_27 (dk_at dksX1_boy_2 18 rfl rfl)
theorem dX1_boy_83 : decode cX1_boy 83 = .ok (.iaload, 1) := dk_46 (dk_at dksX1_boy_2 19 rfl rfl)
theorem dX1_boy_84 : decode cX1_boy 84 = .ok (.ireturn, 1) := dk_172 (dk_at dksX1_boy_2 20 rfl rfl)
theorem dX1_boy_85 : decode cX1_boy 85 = .ok (.aload_n 3, 1) := dk_45 (dk_at dksX1_boy_2 21 rfl rfl)
theorem dX1_boy_86 : decode cX1_boy 86 = .ok (.iload_n 1, 1) := dk_27 (dk_at dksX1_boy_2 22 rfl rfl)
theorem dX1_boy_87 : decode cX1_boy 87 = .ok (.invokevirtual 272, 3) := dk_182 1 16 (dk_at dksX1_boy_3 0 rfl rfl)
theorem dX1_boy_90 : decode cX1_boy 90 = .ok (.ireturn, 1) := dk_172 (dk_at dksX1_boy_3 3 rfl rfl)
theorem dX1_boy_91 : decode cX1_boy 91 = .ok (.aload_n 3, 1) := dk_45 (dk_at dksX1_boy_3 4 rfl rfl)
theorem dX1_boy_92 : decode cX1_boy 92 = .ok (.iload_n 1, 1) := dk_27 (dk_at dksX1_boy_3 5 rfl rfl)
theorem dX1_boy_93 : decode cX1_boy 93 = .ok (.invokevirtual 275, 3) := dk_182 1 19 (dk_at dksX1_boy_3 6 rfl rfl)
theorem dX1_boy_96 : decode cX1_boy 96 = .ok (.ireturn, 1) := dk_172 (dk_at dksX1_boy_3 9 rfl rfl)
theorem dX1_boy_97 : decode cX1_boy 97 = .ok (.aload_n 3, 1) := dk_45 (dk_at dksX1_boy_3 10 rfl rfl)
theorem dX1_boy_98 : decode cX1_boy 98 = .ok (.iload_n 1, 1) := dk_27 (dk_at dksX1_boy_3 11 rfl rfl)
theorem dX1_boy_99 : decode cX1_boy 99 = .ok (.invokevirtual 278, 3) := dk_182 1 22 (dk_at dksX1_boy_3 12 rfl rfl)
theorem dX1_boy_102 : decode cX1_boy 102 = .ok (.ifCond .eq 7, 3) := dk_153 0 7 (dk_at dksX1_boy_3 15 rfl rfl)
theorem dX1_boy_105 : decode cX1_boy 105 = .ok (.iconst 1, 1) := dk_4 (dk_at dksX1_boy_3 18 rfl rfl)
theorem dX1_boy_106 : decode cX1_boy 106 = .ok (.goto 4, 3) := dk_167 0 4 (dk_at dksX1_boy_3 19 rfl rfl)
theorem dX1_boy_109 : decode cX1_boy 109 = .ok (.iconst 0, 1) := dk_3 (dk_at dksX1_boy_3 22 rfl rfl)
theorem dX1_boy_110 : decode cX1_boy 110 = .ok (.ireturn, 1) := dk_172 (dk_at dksX1_boy_3 23 rfl rfl)
theorem dX1_boy_111 : decode cX1_boy 111 = .ok (.aload_n 0, 1) := dk_42 (dk_at dksX1_boy_4 0 rfl rfl)
theorem dX1_boy_112 : decode cX1_boy 112 = .ok (.getfield 83, 3) := dk_180 0 83 (dk_at dksX1_boy_4 1 rfl rfl)
theorem dX1_boy_115 : decode cX1_boy 115 = .ok (.getfield 282, 3) := dk_180 1 26 (dk_at dksX1_boy_4 4 rfl rfl)
theorem dX1_boy_118 : decode cX1_boy 118 = .ok (.iload_n 1, 1) := dk_27 (dk_at dksX1_boy_4 7 rfl rfl)
theorem dX1_boy_119 : decode cX1_boy 119 = .ok (.iaload, 1) := dk_46 (dk_at dksX1_boy_4 8 rfl rfl)
theorem dX1_boy_120 : decode cX1_boy 120 = .ok (.ireturn, 1) := dk_172 (dk_at dksX1_boy_4 9 rfl rfl)
theorem dX1_boy_121 : decode cX1_boy 121 = .ok (.aload_n 3, 1) := dk_45 (dk_at dksX1_boy_4 10 rfl rfl)
theorem dX1_boy_122 : decode cX1_boy 122 = .ok (.getfield 285, 3) := dk_180 1 29 (dk_at dksX1_boy_4 11 rfl rfl)
theorem dX1_boy_125 : decode cX1_boy 125 = .ok (.iload_n 1, 1) := dk_27 (dk_at dksX1_boy_4 14 rfl rfl)
theorem dX1_boy_126 : decode cX1_boy 126 = .ok (.iaload, 1) := dk_46 (dk_at dksX1_boy_4 15 rfl rfl)
theorem dX1_boy_127 : decode cX1_boy 127 = .ok (.ireturn, 1) := dk_172 (dk_at dksX1_boy_4 16 rfl rfl)
abbrev cX1_boyOf : ByteArray := prog_1_method_5_code
def yX1_boyOf : MethodName := ⟨RX1, "boyOf", "(I)V"⟩
def dkwX1_boyOf_0 : List UInt8 := [42, 27, 42, 180, 0, 83, 180, 0, 112, 182, 0, 108, 177]
abbrev dktX1_boyOf_0 : List UInt8 := dkwX1_boyOf_0 ++ []
theorem dksX1_boyOf_0 : cX1_boyOf.data.toList.drop 0 = dktX1_boyOf_0 := by decide +kernel
theorem dX1_boyOf_0 : decode cX1_boyOf 0 = .ok (.aload_n 0, 1) := dk_42 (dk_at dksX1_boyOf_0 0 rfl rfl)
theorem dX1_boyOf_1 : decode cX1_boyOf 1 = .ok (.iload_n 1, 1) := dk_27 (dk_at dksX1_boyOf_0 1 rfl rfl)
theorem dX1_boyOf_2 : decode cX1_boyOf 2 = .ok (.aload_n 0, 1) := dk_42 (dk_at dksX1_boyOf_0 2 rfl rfl)
theorem dX1_boyOf_3 : decode cX1_boyOf 3 = .ok (.getfield 83, 3) := dk_180 0 83 (dk_at dksX1_boyOf_0 3 rfl rfl)
theorem dX1_boyOf_6 : decode cX1_boyOf 6 = .ok (.getfield 112, 3) := dk_180 0 112 (dk_at dksX1_boyOf_0 6 rfl rfl)
theorem dX1_boyOf_9 : decode cX1_boyOf 9 = .ok (.invokevirtual 108, 3) := dk_182 0 108 (dk_at dksX1_boyOf_0 9 rfl rfl)
theorem dX1_boyOf_12 : decode cX1_boyOf 12 = .ok (.return_, 1) := dk_177 (dk_at dksX1_boyOf_0 12 rfl rfl)
abbrev cX1_grows : ByteArray := prog_1_method_18_code
def yX1_grows : MethodName := ⟨RX1, "grows", "(I)I"⟩
def dkwX1_grows_0 : List UInt8 := [42, 27, 182, 1, 10, 42, 180, 0, 25, 182, 0, 91, 27, 182, 1, 32, 172]
abbrev dktX1_grows_0 : List UInt8 := dkwX1_grows_0 ++ []
theorem dksX1_grows_0 : cX1_grows.data.toList.drop 0 = dktX1_grows_0 := by decide +kernel
theorem dX1_grows_0 : decode cX1_grows 0 = .ok (.aload_n 0, 1) := dk_42 (dk_at dksX1_grows_0 0 rfl rfl)
theorem dX1_grows_1 : decode cX1_grows 1 = .ok (.iload_n 1, 1) := dk_27 (dk_at dksX1_grows_0 1 rfl rfl)
theorem dX1_grows_2 : decode cX1_grows 2 = .ok (.invokevirtual 266, 3) := dk_182 1 10 (dk_at dksX1_grows_0 2 rfl rfl)
theorem dX1_grows_5 : decode cX1_grows 5 = .ok (.aload_n 0, 1) := dk_42 (dk_at dksX1_grows_0 5 rfl rfl)
theorem dX1_grows_6 : decode cX1_grows 6 = .ok (.getfield 25, 3) := dk_180 0 25 (dk_at dksX1_grows_0 6 rfl rfl)
theorem dX1_grows_9 : decode cX1_grows 9 = .ok (.invokevirtual 91, 3) := dk_182 0 91 (dk_at dksX1_grows_0 9 rfl rfl)
theorem dX1_grows_12 : decode cX1_grows 12 = .ok (.iload_n 1, 1) := dk_27 (dk_at dksX1_grows_0 12 rfl rfl)
theorem dX1_grows_13 : decode cX1_grows 13 = .ok (.invokevirtual 288, 3) := dk_182 1 32 (dk_at dksX1_grows_0 13 rfl rfl)
theorem dX1_grows_16 : decode cX1_grows 16 = .ok (.ireturn, 1) := dk_172 (dk_at dksX1_grows_0 16 rfl rfl)
abbrev cX1_would : ByteArray := prog_1_method_20_code
def yX1_would : MethodName := ⟨RX1, "would", "(IIIIIIII)I"⟩
def dkwX1_would_6 : List UInt8 := [180, 0, 50, 21, 8, 181, 1, 50, 42, 180, 0, 16, 42, 180, 0, 50, 182, 1, 53, 172]
abbrev dktX1_would_6 : List UInt8 := dkwX1_would_6 ++ []
def dkwX1_would_5 : List UInt8 := [181, 1, 45, 42, 180, 0, 50, 21, 6, 181, 1, 47, 42, 180, 0, 50, 21, 7, 181, 1, 48, 42]
abbrev dktX1_would_5 : List UInt8 := dkwX1_would_5 ++ dktX1_would_6
def dkwX1_would_4 : List UInt8 := [180, 0, 50, 29, 181, 1, 41, 42, 180, 0, 50, 21, 4, 181, 1, 43, 42, 180, 0, 50, 21, 5]
abbrev dktX1_would_4 : List UInt8 := dkwX1_would_4 ++ dktX1_would_5
def dkwX1_would_3 : List UInt8 := [16, 6, 182, 0, 131, 42, 180, 0, 50, 27, 181, 1, 37, 42, 180, 0, 50, 28, 181, 1, 39, 42]
abbrev dktX1_would_3 : List UInt8 := dkwX1_would_3 ++ dktX1_would_4
def dkwX1_would_2 : List UInt8 := [42, 21, 6, 3, 16, 11, 182, 0, 131, 42, 21, 7, 3, 17, 23, 106, 182, 0, 131, 42, 21, 8, 3]
abbrev dktX1_would_2 : List UInt8 := dkwX1_would_2 ++ dktX1_would_3
def dkwX1_would_1 : List UInt8 := [182, 0, 131, 42, 21, 4, 3, 16, 9, 182, 0, 131, 42, 21, 5, 17, 252, 25, 17, 3, 231, 182, 0, 131]
abbrev dktX1_would_1 : List UInt8 := dkwX1_would_1 ++ dktX1_would_2
def dkwX1_would_0 : List UInt8 := [42, 27, 3, 16, 9, 182, 0, 131, 42, 28, 4, 17, 3, 231, 182, 0, 131, 42, 29, 3, 16, 6]
abbrev dktX1_would_0 : List UInt8 := dkwX1_would_0 ++ dktX1_would_1
theorem dksX1_would_0 : cX1_would.data.toList.drop 0 = dktX1_would_0 := by decide +kernel
theorem dksX1_would_1 : cX1_would.data.toList.drop 22 = dktX1_would_1 := dk_seg dksX1_would_0 22 rfl rfl
theorem dksX1_would_2 : cX1_would.data.toList.drop 46 = dktX1_would_2 := dk_seg dksX1_would_1 24 rfl rfl
theorem dksX1_would_3 : cX1_would.data.toList.drop 69 = dktX1_would_3 := dk_seg dksX1_would_2 23 rfl rfl
theorem dksX1_would_4 : cX1_would.data.toList.drop 91 = dktX1_would_4 := dk_seg dksX1_would_3 22 rfl rfl
theorem dksX1_would_5 : cX1_would.data.toList.drop 113 = dktX1_would_5 := dk_seg dksX1_would_4 22 rfl rfl
theorem dksX1_would_6 : cX1_would.data.toList.drop 135 = dktX1_would_6 := dk_seg dksX1_would_5 22 rfl rfl
theorem dX1_would_0 : decode cX1_would 0 = .ok (.aload_n 0, 1) := dk_42 (dk_at dksX1_would_0 0 rfl rfl)
theorem dX1_would_1 : decode cX1_would 1 = .ok (.iload_n 1, 1) := dk_27 (dk_at dksX1_would_0 1 rfl rfl)
theorem dX1_would_2 : decode cX1_would 2 = .ok (.iconst 0, 1) := dk_3 (dk_at dksX1_would_0 2 rfl rfl)
theorem dX1_would_3 : decode cX1_would 3 = .ok (.bipush 9, 2) := dk_16 9 (dk_at dksX1_would_0 3 rfl rfl)
theorem dX1_would_5 : decode cX1_would 5 = .ok (.invokevirtual 131, 3) := dk_182 0 131 (dk_at dksX1_would_0 5 rfl rfl)
theorem dX1_would_8 : decode cX1_would 8 = .ok (.aload_n 0, 1) := dk_42 (dk_at dksX1_would_0 8 rfl rfl)
theorem dX1_would_9 : decode cX1_would 9 = .ok (.iload_n 2, 1) := dk_28 (dk_at dksX1_would_0 9 rfl rfl)
theorem dX1_would_10 : decode cX1_would 10 = .ok (.iconst 1, 1) := dk_4 (dk_at dksX1_would_0 10 rfl rfl)
theorem dX1_would_11 : decode cX1_would 11 = .ok (.sipush 999, 3) := dk_17 3 231 (dk_at dksX1_would_0 11 rfl rfl)
theorem dX1_would_14 : decode cX1_would 14 = .ok (.invokevirtual 131, 3) := dk_182 0 131 (dk_at dksX1_would_0 14 rfl rfl)
theorem dX1_would_17 : decode cX1_would 17 = .ok (.aload_n 0, 1) := dk_42 (dk_at dksX1_would_0 17 rfl rfl)
theorem dX1_would_18 : decode cX1_would 18 = .ok (.iload_n 3, 1) := dk_29 (dk_at dksX1_would_0 18 rfl rfl)
theorem dX1_would_19 : decode cX1_would 19 = .ok (.iconst 0, 1) := dk_3 (dk_at dksX1_would_0 19 rfl rfl)
theorem dX1_would_20 : decode cX1_would 20 = .ok (.bipush 6, 2) := dk_16 6 (dk_at dksX1_would_0 20 rfl rfl)
theorem dX1_would_22 : decode cX1_would 22 = .ok (.invokevirtual 131, 3) := dk_182 0 131 (dk_at dksX1_would_1 0 rfl rfl)
theorem dX1_would_25 : decode cX1_would 25 = .ok (.aload_n 0, 1) := dk_42 (dk_at dksX1_would_1 3 rfl rfl)
theorem dX1_would_26 : decode cX1_would 26 = .ok (.iload 4, 2) := dk_21 4 (dk_at dksX1_would_1 4 rfl rfl)
theorem dX1_would_28 : decode cX1_would 28 = .ok (.iconst 0, 1) := dk_3 (dk_at dksX1_would_1 6 rfl rfl)
theorem dX1_would_29 : decode cX1_would 29 = .ok (.bipush 9, 2) := dk_16 9 (dk_at dksX1_would_1 7 rfl rfl)
theorem dX1_would_31 : decode cX1_would 31 = .ok (.invokevirtual 131, 3) := dk_182 0 131 (dk_at dksX1_would_1 9 rfl rfl)
theorem dX1_would_34 : decode cX1_would 34 = .ok (.aload_n 0, 1) := dk_42 (dk_at dksX1_would_1 12 rfl rfl)
theorem dX1_would_35 : decode cX1_would 35 = .ok (.iload 5, 2) := dk_21 5 (dk_at dksX1_would_1 13 rfl rfl)
theorem dX1_would_37 : decode cX1_would 37 = .ok (.sipush (-999), 3) := dk_17 252 25 (dk_at dksX1_would_1 15 rfl rfl)
theorem dX1_would_40 : decode cX1_would 40 = .ok (.sipush 999, 3) := dk_17 3 231 (dk_at dksX1_would_1 18 rfl rfl)
theorem dX1_would_43 : decode cX1_would 43 = .ok (.invokevirtual 131, 3) := dk_182 0 131 (dk_at dksX1_would_1 21 rfl rfl)
theorem dX1_would_46 : decode cX1_would 46 = .ok (.aload_n 0, 1) := dk_42 (dk_at dksX1_would_2 0 rfl rfl)
theorem dX1_would_47 : decode cX1_would 47 = .ok (.iload 6, 2) := dk_21 6 (dk_at dksX1_would_2 1 rfl rfl)
theorem dX1_would_49 : decode cX1_would 49 = .ok (.iconst 0, 1) := dk_3 (dk_at dksX1_would_2 3 rfl rfl)
theorem dX1_would_50 : decode cX1_would 50 = .ok (.bipush 11, 2) := dk_16 11 (dk_at dksX1_would_2 4 rfl rfl)
theorem dX1_would_52 : decode cX1_would 52 = .ok (.invokevirtual 131, 3) := dk_182 0 131 (dk_at dksX1_would_2 6 rfl rfl)
theorem dX1_would_55 : decode cX1_would 55 = .ok (.aload_n 0, 1) := dk_42 (dk_at dksX1_would_2 9 rfl rfl)
theorem dX1_would_56 : decode cX1_would 56 = .ok (.iload 7, 2) := dk_21 7 (dk_at dksX1_would_2 10 rfl rfl)
theorem dX1_would_58 : decode cX1_would 58 = .ok (.iconst 0, 1) := dk_3 (dk_at dksX1_would_2 12 rfl rfl)
theorem dX1_would_59 : decode cX1_would 59 = .ok (.sipush 5994, 3) := dk_17 23 106 (dk_at dksX1_would_2 13 rfl rfl)
theorem dX1_would_62 : decode cX1_would 62 = .ok (.invokevirtual 131, 3) := dk_182 0 131 (dk_at dksX1_would_2 16 rfl rfl)
theorem dX1_would_65 : decode cX1_would 65 = .ok (.aload_n 0, 1) := dk_42 (dk_at dksX1_would_2 19 rfl rfl)
theorem dX1_would_66 : decode cX1_would 66 = .ok (.iload 8, 2) := dk_21 8 (dk_at dksX1_would_2 20 rfl rfl)
theorem dX1_would_68 : decode cX1_would 68 = .ok (.iconst 0, 1) := dk_3 (dk_at dksX1_would_2 22 rfl rfl)
theorem dX1_would_69 : decode cX1_would 69 = .ok (.bipush 6, 2) := dk_16 6 (dk_at dksX1_would_3 0 rfl rfl)
theorem dX1_would_71 : decode cX1_would 71 = .ok (.invokevirtual 131, 3) := dk_182 0 131 (dk_at dksX1_would_3 2 rfl rfl)
theorem dX1_would_74 : decode cX1_would 74 = .ok (.aload_n 0, 1) := dk_42 (dk_at dksX1_would_3 5 rfl rfl)
theorem dX1_would_75 : decode cX1_would 75 = .ok (.getfield 50, 3) := dk_180 0 50 (dk_at dksX1_would_3 6 rfl rfl)
theorem dX1_would_78 : decode cX1_would 78 = .ok (.iload_n 1, 1) := dk_27 (dk_at dksX1_would_3 9 rfl rfl)
theorem dX1_would_79 : decode cX1_would 79 = .ok (.putfield 293, 3) := dk_181 1 37 (dk_at dksX1_would_3 10 rfl rfl)
theorem dX1_would_82 : decode cX1_would 82 = .ok (.aload_n 0, 1) := dk_42 (dk_at dksX1_would_3 13 rfl rfl)
theorem dX1_would_83 : decode cX1_would 83 = .ok (.getfield 50, 3) := dk_180 0 50 (dk_at dksX1_would_3 14 rfl rfl)
theorem dX1_would_86 : decode cX1_would 86 = .ok (.iload_n 2, 1) := dk_28 (dk_at dksX1_would_3 17 rfl rfl)
theorem dX1_would_87 : decode cX1_would 87 = .ok (.putfield 295, 3) := dk_181 1 39 (dk_at dksX1_would_3 18 rfl rfl)
theorem dX1_would_90 : decode cX1_would 90 = .ok (.aload_n 0, 1) := dk_42 (dk_at dksX1_would_3 21 rfl rfl)
theorem dX1_would_91 : decode cX1_would 91 = .ok (.getfield 50, 3) := dk_180 0 50 (dk_at dksX1_would_4 0 rfl rfl)
theorem dX1_would_94 : decode cX1_would 94 = .ok (.iload_n 3, 1) := dk_29 (dk_at dksX1_would_4 3 rfl rfl)
theorem dX1_would_95 : decode cX1_would 95 = .ok (.putfield 297, 3) := dk_181 1 41 (dk_at dksX1_would_4 4 rfl rfl)
theorem dX1_would_98 : decode cX1_would 98 = .ok (.aload_n 0, 1) := dk_42 (dk_at dksX1_would_4 7 rfl rfl)
theorem dX1_would_99 : decode cX1_would 99 = .ok (.getfield 50, 3) := dk_180 0 50 (dk_at dksX1_would_4 8 rfl rfl)
theorem dX1_would_102 : decode cX1_would 102 = .ok (.iload 4, 2) := dk_21 4 (dk_at dksX1_would_4 11 rfl rfl)
theorem dX1_would_104 : decode cX1_would 104 = .ok (.putfield 299, 3) := dk_181 1 43 (dk_at dksX1_would_4 13 rfl rfl)
theorem dX1_would_107 : decode cX1_would 107 = .ok (.aload_n 0, 1) := dk_42 (dk_at dksX1_would_4 16 rfl rfl)
theorem dX1_would_108 : decode cX1_would 108 = .ok (.getfield 50, 3) := dk_180 0 50 (dk_at dksX1_would_4 17 rfl rfl)
theorem dX1_would_111 : decode cX1_would 111 = .ok (.iload 5, 2) := dk_21 5 (dk_at dksX1_would_4 20 rfl rfl)
theorem dX1_would_113 : decode cX1_would 113 = .ok (.putfield 301, 3) := dk_181 1 45 (dk_at dksX1_would_5 0 rfl rfl)
theorem dX1_would_116 : decode cX1_would 116 = .ok (.aload_n 0, 1) := dk_42 (dk_at dksX1_would_5 3 rfl rfl)
theorem dX1_would_117 : decode cX1_would 117 = .ok (.getfield 50, 3) := dk_180 0 50 (dk_at dksX1_would_5 4 rfl rfl)
theorem dX1_would_120 : decode cX1_would 120 = .ok (.iload 6, 2) := dk_21 6 (dk_at dksX1_would_5 7 rfl rfl)
theorem dX1_would_122 : decode cX1_would 122 = .ok (.putfield 303, 3) := dk_181 1 47 (dk_at dksX1_would_5 9 rfl rfl)
theorem dX1_would_125 : decode cX1_would 125 = .ok (.aload_n 0, 1) := dk_42 (dk_at dksX1_would_5 12 rfl rfl)
theorem dX1_would_126 : decode cX1_would 126 = .ok (.getfield 50, 3) := dk_180 0 50 (dk_at dksX1_would_5 13 rfl rfl)
theorem dX1_would_129 : decode cX1_would 129 = .ok (.iload 7, 2) := dk_21 7 (dk_at dksX1_would_5 16 rfl rfl)
theorem dX1_would_131 : decode cX1_would 131 = .ok (.putfield 304, 3) := dk_181 1 48 (dk_at dksX1_would_5 18 rfl rfl)
theorem dX1_would_134 : decode cX1_would 134 = .ok (.aload_n 0, 1) := dk_42 (dk_at dksX1_would_5 21 rfl rfl)
theorem dX1_would_135 : decode cX1_would 135 = .ok (.getfield 50, 3) := dk_180 0 50 (dk_at dksX1_would_6 0 rfl rfl)
theorem dX1_would_138 : decode cX1_would 138 = .ok (.iload 8, 2) := dk_21 8 (dk_at dksX1_would_6 3 rfl rfl)
theorem dX1_would_140 : decode cX1_would 140 = .ok (.putfield 306, 3) := dk_181 1 50 (dk_at dksX1_would_6 5 rfl rfl)
theorem dX1_would_143 : decode cX1_would 143 = .ok (.aload_n 0, 1) := dk_42 (dk_at dksX1_would_6 8 rfl rfl)
theorem dX1_would_144 : decode cX1_would 144 = .ok (.getfield 16, 3) := dk_180 0 16 (dk_at dksX1_would_6 9 rfl rfl)
theorem dX1_would_147 : decode cX1_would 147 = .ok (.aload_n 0, 1) := dk_42 (dk_at dksX1_would_6 12 rfl rfl)
theorem dX1_would_148 : decode cX1_would 148 = .ok (.getfield 50, 3) := dk_180 0 50 (dk_at dksX1_would_6 13 rfl rfl)
theorem dX1_would_151 : decode cX1_would 151 = .ok (.invokevirtual 309, 3) := dk_182 1 53 (dk_at dksX1_would_6 16 rfl rfl)
theorem dX1_would_154 : decode cX1_would 154 = .ok (.ireturn, 1) := dk_172 (dk_at dksX1_would_6 19 rfl rfl)
abbrev cX1_ahead : ByteArray := prog_1_method_23_code
def yX1_ahead : MethodName := ⟨RX1, "ahead", "(II)I"⟩
def dkwX1_ahead_3 : List UInt8 := [180, 0, 36, 182, 0, 242, 172]
abbrev dktX1_ahead_3 : List UInt8 := dkwX1_ahead_3 ++ []
def dkwX1_ahead_2 : List UInt8 := [182, 0, 230, 167, 0, 25, 28, 4, 160, 0, 13, 42, 180, 0, 36, 182, 1, 65, 167, 0, 10, 42]
abbrev dktX1_ahead_2 : List UInt8 := dkwX1_ahead_2 ++ dktX1_ahead_3
def dkwX1_ahead_1 : List UInt8 := [162, 0, 16, 42, 180, 0, 36, 182, 1, 62, 132, 3, 1, 167, 255, 241, 28, 154, 0, 13, 42, 180, 0, 36]
abbrev dktX1_ahead_1 : List UInt8 := dkwX1_ahead_1 ++ dktX1_ahead_2
def dkwX1_ahead_0 : List UInt8 := [42, 27, 3, 16, 99, 182, 0, 131, 42, 28, 3, 5, 182, 0, 131, 42, 182, 1, 59, 87, 3, 62, 29, 27]
abbrev dktX1_ahead_0 : List UInt8 := dkwX1_ahead_0 ++ dktX1_ahead_1
theorem dksX1_ahead_0 : cX1_ahead.data.toList.drop 0 = dktX1_ahead_0 := by decide +kernel
theorem dksX1_ahead_1 : cX1_ahead.data.toList.drop 24 = dktX1_ahead_1 := dk_seg dksX1_ahead_0 24 rfl rfl
theorem dksX1_ahead_2 : cX1_ahead.data.toList.drop 48 = dktX1_ahead_2 := dk_seg dksX1_ahead_1 24 rfl rfl
theorem dksX1_ahead_3 : cX1_ahead.data.toList.drop 70 = dktX1_ahead_3 := dk_seg dksX1_ahead_2 22 rfl rfl
theorem dX1_ahead_0 : decode cX1_ahead 0 = .ok (.aload_n 0, 1) := dk_42 (dk_at dksX1_ahead_0 0 rfl rfl)
theorem dX1_ahead_1 : decode cX1_ahead 1 = .ok (.iload_n 1, 1) := dk_27 (dk_at dksX1_ahead_0 1 rfl rfl)
theorem dX1_ahead_2 : decode cX1_ahead 2 = .ok (.iconst 0, 1) := dk_3 (dk_at dksX1_ahead_0 2 rfl rfl)
theorem dX1_ahead_3 : decode cX1_ahead 3 = .ok (.bipush 99, 2) := dk_16 99 (dk_at dksX1_ahead_0 3 rfl rfl)
theorem dX1_ahead_5 : decode cX1_ahead 5 = .ok (.invokevirtual 131, 3) := dk_182 0 131 (dk_at dksX1_ahead_0 5 rfl rfl)
theorem dX1_ahead_8 : decode cX1_ahead 8 = .ok (.aload_n 0, 1) := dk_42 (dk_at dksX1_ahead_0 8 rfl rfl)
theorem dX1_ahead_9 : decode cX1_ahead 9 = .ok (.iload_n 2, 1) := dk_28 (dk_at dksX1_ahead_0 9 rfl rfl)
theorem dX1_ahead_10 : decode cX1_ahead 10 = .ok (.iconst 0, 1) := dk_3 (dk_at dksX1_ahead_0 10 rfl rfl)
theorem dX1_ahead_11 : decode cX1_ahead 11 = .ok (.iconst 2, 1) := dk_5 (dk_at dksX1_ahead_0 11 rfl rfl)
theorem dX1_ahead_12 : decode cX1_ahead 12 = .ok (.invokevirtual 131, 3) := dk_182 0 131 (dk_at dksX1_ahead_0 12 rfl rfl)
theorem dX1_ahead_15 : decode cX1_ahead 15 = .ok (.aload_n 0, 1) := dk_42 (dk_at dksX1_ahead_0 15 rfl rfl)
theorem dX1_ahead_16 : decode cX1_ahead 16 = .ok (.invokevirtual 315, 3) := dk_182 1 59 (dk_at dksX1_ahead_0 16 rfl rfl)
theorem dX1_ahead_19 : decode cX1_ahead 19 = .ok (.pop, 1) := dk_87 (dk_at dksX1_ahead_0 19 rfl rfl)
theorem dX1_ahead_20 : decode cX1_ahead 20 = .ok (.iconst 0, 1) := dk_3 (dk_at dksX1_ahead_0 20 rfl rfl)
theorem dX1_ahead_21 : decode cX1_ahead 21 = .ok (.istore_n 3, 1) := dk_62 (dk_at dksX1_ahead_0 21 rfl rfl)
theorem dX1_ahead_22 : decode cX1_ahead 22 = .ok (.iload_n 3, 1) := dk_29 (dk_at dksX1_ahead_0 22 rfl rfl)
theorem dX1_ahead_23 : decode cX1_ahead 23 = .ok (.iload_n 1, 1) := dk_27 (dk_at dksX1_ahead_0 23 rfl rfl)
theorem dX1_ahead_24 : decode cX1_ahead 24 = .ok (.if_icmp .ge 16, 3) := dk_162 0 16 (dk_at dksX1_ahead_1 0 rfl rfl)
theorem dX1_ahead_27 : decode cX1_ahead 27 = .ok (.aload_n 0, 1) := dk_42 (dk_at dksX1_ahead_1 3 rfl rfl)
theorem dX1_ahead_28 : decode cX1_ahead 28 = .ok (.getfield 36, 3) := dk_180 0 36 (dk_at dksX1_ahead_1 4 rfl rfl)
theorem dX1_ahead_31 : decode cX1_ahead 31 = .ok (.invokevirtual 318, 3) := dk_182 1 62 (dk_at dksX1_ahead_1 7 rfl rfl)
theorem dX1_ahead_34 : decode cX1_ahead 34 = .ok (.iinc 3 1, 3) := dk_132 3 1 (dk_at dksX1_ahead_1 10 rfl rfl)
theorem dX1_ahead_37 : decode cX1_ahead 37 = .ok (.goto (-15), 3) := dk_167 255 241 (dk_at dksX1_ahead_1 13 rfl rfl)
theorem dX1_ahead_40 : decode cX1_ahead 40 = .ok (.iload_n 2, 1) := dk_28 (dk_at dksX1_ahead_1 16 rfl rfl)
theorem dX1_ahead_41 : decode cX1_ahead 41 = .ok (.ifCond .ne 13, 3) := dk_154 0 13 (dk_at dksX1_ahead_1 17 rfl rfl)
theorem dX1_ahead_44 : decode cX1_ahead 44 = .ok (.aload_n 0, 1) := dk_42 (dk_at dksX1_ahead_1 20 rfl rfl)
theorem dX1_ahead_45 : decode cX1_ahead 45 = .ok (.getfield 36, 3) := dk_180 0 36 (dk_at dksX1_ahead_1 21 rfl rfl)
theorem dX1_ahead_48 : decode cX1_ahead 48 = .ok (.invokevirtual 230, 3) := dk_182 0 230 (dk_at dksX1_ahead_2 0 rfl rfl)
theorem dX1_ahead_51 : decode cX1_ahead 51 = .ok (.goto 25, 3) := dk_167 0 25 (dk_at dksX1_ahead_2 3 rfl rfl)
theorem dX1_ahead_54 : decode cX1_ahead 54 = .ok (.iload_n 2, 1) := dk_28 (dk_at dksX1_ahead_2 6 rfl rfl)
theorem dX1_ahead_55 : decode cX1_ahead 55 = .ok (.iconst 1, 1) := dk_4 (dk_at dksX1_ahead_2 7 rfl rfl)
theorem dX1_ahead_56 : decode cX1_ahead 56 = .ok (.if_icmp .ne 13, 3) := dk_160 0 13 (dk_at dksX1_ahead_2 8 rfl rfl)
theorem dX1_ahead_59 : decode cX1_ahead 59 = .ok (.aload_n 0, 1) := dk_42 (dk_at dksX1_ahead_2 11 rfl rfl)
theorem dX1_ahead_60 : decode cX1_ahead 60 = .ok (.getfield 36, 3) := dk_180 0 36 (dk_at dksX1_ahead_2 12 rfl rfl)
theorem dX1_ahead_63 : decode cX1_ahead 63 = .ok (.invokevirtual 321, 3) := dk_182 1 65 (dk_at dksX1_ahead_2 15 rfl rfl)
theorem dX1_ahead_66 : decode cX1_ahead 66 = .ok (.goto 10, 3) := dk_167 0 10 (dk_at dksX1_ahead_2 18 rfl rfl)
theorem dX1_ahead_69 : decode cX1_ahead 69 = .ok (.aload_n 0, 1) := dk_42 (dk_at dksX1_ahead_2 21 rfl rfl)
theorem dX1_ahead_70 : decode cX1_ahead 70 = .ok (.getfield 36, 3) := dk_180 0 36 (dk_at dksX1_ahead_3 0 rfl rfl)
theorem dX1_ahead_73 : decode cX1_ahead 73 = .ok (.invokevirtual 242, 3) := dk_182 0 242 (dk_at dksX1_ahead_3 3 rfl rfl)
theorem dX1_ahead_76 : decode cX1_ahead 76 = .ok (.ireturn, 1) := dk_172 (dk_at dksX1_ahead_3 6 rfl rfl)
abbrev cX1_tried : ByteArray := prog_1_method_22_code
def yX1_tried : MethodName := ⟨RX1, "tried", "()LGrowingDoor$State;"⟩
def dkwX1_tried_0 : List UInt8 := [42, 180, 0, 36, 42, 180, 0, 25, 182, 0, 91, 182, 0, 190, 176]
abbrev dktX1_tried_0 : List UInt8 := dkwX1_tried_0 ++ []
theorem dksX1_tried_0 : cX1_tried.data.toList.drop 0 = dktX1_tried_0 := by decide +kernel
theorem dX1_tried_0 : decode cX1_tried 0 = .ok (.aload_n 0, 1) := dk_42 (dk_at dksX1_tried_0 0 rfl rfl)
theorem dX1_tried_1 : decode cX1_tried 1 = .ok (.getfield 36, 3) := dk_180 0 36 (dk_at dksX1_tried_0 1 rfl rfl)
theorem dX1_tried_4 : decode cX1_tried 4 = .ok (.aload_n 0, 1) := dk_42 (dk_at dksX1_tried_0 4 rfl rfl)
theorem dX1_tried_5 : decode cX1_tried 5 = .ok (.getfield 25, 3) := dk_180 0 25 (dk_at dksX1_tried_0 5 rfl rfl)
theorem dX1_tried_8 : decode cX1_tried 8 = .ok (.invokevirtual 91, 3) := dk_182 0 91 (dk_at dksX1_tried_0 8 rfl rfl)
theorem dX1_tried_11 : decode cX1_tried 11 = .ok (.invokevirtual 190, 3) := dk_182 0 190 (dk_at dksX1_tried_0 11 rfl rfl)
theorem dX1_tried_14 : decode cX1_tried 14 = .ok (.areturn, 1) := dk_176 (dk_at dksX1_tried_0 14 rfl rfl)
abbrev cX1_passes : ByteArray := prog_1_method_24_code
def yX1_passes : MethodName := ⟨RX1, "passes", "(II)I"⟩
def dkwX1_passes_3 : List UInt8 := [167, 255, 217, 2, 172]
abbrev dktX1_passes_3 : List UInt8 := dkwX1_passes_3 ++ []
def dkwX1_passes_2 : List UInt8 := [180, 0, 36, 180, 0, 248, 28, 46, 164, 0, 5, 29, 172, 42, 180, 0, 36, 182, 1, 62, 132, 3, 1]
abbrev dktX1_passes_2 : List UInt8 := dkwX1_passes_2 ++ dktX1_passes_3
def dkwX1_passes_1 : List UInt8 := [182, 1, 59, 87, 3, 62, 29, 16, 99, 163, 0, 39, 42, 180, 0, 36, 180, 0, 248, 27, 46, 42]
abbrev dktX1_passes_1 : List UInt8 := dkwX1_passes_1 ++ dktX1_passes_2
def dkwX1_passes_0 : List UInt8 := [42, 27, 182, 1, 10, 42, 28, 182, 1, 10, 27, 28, 160, 0, 10, 42, 4, 3, 3, 182, 0, 131, 42]
abbrev dktX1_passes_0 : List UInt8 := dkwX1_passes_0 ++ dktX1_passes_1
theorem dksX1_passes_0 : cX1_passes.data.toList.drop 0 = dktX1_passes_0 := by decide +kernel
theorem dksX1_passes_1 : cX1_passes.data.toList.drop 23 = dktX1_passes_1 := dk_seg dksX1_passes_0 23 rfl rfl
theorem dksX1_passes_2 : cX1_passes.data.toList.drop 45 = dktX1_passes_2 := dk_seg dksX1_passes_1 22 rfl rfl
theorem dksX1_passes_3 : cX1_passes.data.toList.drop 68 = dktX1_passes_3 := dk_seg dksX1_passes_2 23 rfl rfl
theorem dX1_passes_0 : decode cX1_passes 0 = .ok (.aload_n 0, 1) := dk_42 (dk_at dksX1_passes_0 0 rfl rfl)
theorem dX1_passes_1 : decode cX1_passes 1 = .ok (.iload_n 1, 1) := dk_27 (dk_at dksX1_passes_0 1 rfl rfl)
theorem dX1_passes_2 : decode cX1_passes 2 = .ok (.invokevirtual 266, 3) := dk_182 1 10 (dk_at dksX1_passes_0 2 rfl rfl)
theorem dX1_passes_5 : decode cX1_passes 5 = .ok (.aload_n 0, 1) := dk_42 (dk_at dksX1_passes_0 5 rfl rfl)
theorem dX1_passes_6 : decode cX1_passes 6 = .ok (.iload_n 2, 1) := dk_28 (dk_at dksX1_passes_0 6 rfl rfl)
theorem dX1_passes_7 : decode cX1_passes 7 = .ok (.invokevirtual 266, 3) := dk_182 1 10 (dk_at dksX1_passes_0 7 rfl rfl)
theorem dX1_passes_10 : decode cX1_passes 10 = .ok (.iload_n 1, 1) := dk_27 (dk_at dksX1_passes_0 10 rfl rfl)
theorem dX1_passes_11 : decode cX1_passes 11 = .ok (.iload_n 2, 1) := dk_28 (dk_at dksX1_passes_0 11 rfl rfl)
theorem dX1_passes_12 : decode cX1_passes 12 = .ok (.if_icmp .ne 10, 3) := dk_160 0 10 (dk_at dksX1_passes_0 12 rfl rfl)
theorem dX1_passes_15 : decode cX1_passes 15 = .ok (.aload_n 0, 1) := dk_42 (dk_at dksX1_passes_0 15 rfl rfl)
theorem dX1_passes_16 : decode cX1_passes 16 = .ok (.iconst 1, 1) := dk_4 (dk_at dksX1_passes_0 16 rfl rfl)
theorem dX1_passes_17 : decode cX1_passes 17 = .ok (.iconst 0, 1) := dk_3 (dk_at dksX1_passes_0 17 rfl rfl)
theorem dX1_passes_18 : decode cX1_passes 18 = .ok (.iconst 0, 1) := dk_3 (dk_at dksX1_passes_0 18 rfl rfl)
theorem dX1_passes_19 : decode cX1_passes 19 = .ok (.invokevirtual 131, 3) := dk_182 0 131 (dk_at dksX1_passes_0 19 rfl rfl)
theorem dX1_passes_22 : decode cX1_passes 22 = .ok (.aload_n 0, 1) := dk_42 (dk_at dksX1_passes_0 22 rfl rfl)
theorem dX1_passes_23 : decode cX1_passes 23 = .ok (.invokevirtual 315, 3) := dk_182 1 59 (dk_at dksX1_passes_1 0 rfl rfl)
theorem dX1_passes_26 : decode cX1_passes 26 = .ok (.pop, 1) := dk_87 (dk_at dksX1_passes_1 3 rfl rfl)
theorem dX1_passes_27 : decode cX1_passes 27 = .ok (.iconst 0, 1) := dk_3 (dk_at dksX1_passes_1 4 rfl rfl)
theorem dX1_passes_28 : decode cX1_passes 28 = .ok (.istore_n 3, 1) := dk_62 (dk_at dksX1_passes_1 5 rfl rfl)
theorem dX1_passes_29 : decode cX1_passes 29 = .ok (.iload_n 3, 1) := dk_29 (dk_at dksX1_passes_1 6 rfl rfl)
theorem dX1_passes_30 : decode cX1_passes 30 = .ok (.bipush 99, 2) := dk_16 99 (dk_at dksX1_passes_1 7 rfl rfl)
theorem dX1_passes_32 : decode cX1_passes 32 = .ok (.if_icmp .gt 39, 3) := dk_163 0 39 (dk_at dksX1_passes_1 9 rfl rfl)
theorem dX1_passes_35 : decode cX1_passes 35 = .ok (.aload_n 0, 1) := dk_42 (dk_at dksX1_passes_1 12 rfl rfl)
theorem dX1_passes_36 : decode cX1_passes 36 = .ok (.getfield 36, 3) := dk_180 0 36 (dk_at dksX1_passes_1 13 rfl rfl)
theorem dX1_passes_39 : decode cX1_passes 39 = .ok (.getfield 248, 3) := dk_180 0 248 (dk_at dksX1_passes_1 16 rfl rfl)
theorem dX1_passes_42 : decode cX1_passes 42 = .ok (.iload_n 1, 1) := dk_27 (dk_at dksX1_passes_1 19 rfl rfl)
theorem dX1_passes_43 : decode cX1_passes 43 = .ok (.iaload, 1) := dk_46 (dk_at dksX1_passes_1 20 rfl rfl)
theorem dX1_passes_44 : decode cX1_passes 44 = .ok (.aload_n 0, 1) := dk_42 (dk_at dksX1_passes_1 21 rfl rfl)
theorem dX1_passes_45 : decode cX1_passes 45 = .ok (.getfield 36, 3) := dk_180 0 36 (dk_at dksX1_passes_2 0 rfl rfl)
theorem dX1_passes_48 : decode cX1_passes 48 = .ok (.getfield 248, 3) := dk_180 0 248 (dk_at dksX1_passes_2 3 rfl rfl)
theorem dX1_passes_51 : decode cX1_passes 51 = .ok (.iload_n 2, 1) := dk_28 (dk_at dksX1_passes_2 6 rfl rfl)
theorem dX1_passes_52 : decode cX1_passes 52 = .ok (.iaload, 1) := dk_46 (dk_at dksX1_passes_2 7 rfl rfl)
theorem dX1_passes_53 : decode cX1_passes 53 = .ok (.if_icmp .le 5, 3) := dk_164 0 5 (dk_at dksX1_passes_2 8 rfl rfl)
theorem dX1_passes_56 : decode cX1_passes 56 = .ok (.iload_n 3, 1) := dk_29 (dk_at dksX1_passes_2 11 rfl rfl)
theorem dX1_passes_57 : decode cX1_passes 57 = .ok (.ireturn, 1) := dk_172 (dk_at dksX1_passes_2 12 rfl rfl)
theorem dX1_passes_58 : decode cX1_passes 58 = .ok (.aload_n 0, 1) := dk_42 (dk_at dksX1_passes_2 13 rfl rfl)
theorem dX1_passes_59 : decode cX1_passes 59 = .ok (.getfield 36, 3) := dk_180 0 36 (dk_at dksX1_passes_2 14 rfl rfl)
theorem dX1_passes_62 : decode cX1_passes 62 = .ok (.invokevirtual 318, 3) := dk_182 1 62 (dk_at dksX1_passes_2 17 rfl rfl)
theorem dX1_passes_65 : decode cX1_passes 65 = .ok (.iinc 3 1, 3) := dk_132 3 1 (dk_at dksX1_passes_2 20 rfl rfl)
theorem dX1_passes_68 : decode cX1_passes 68 = .ok (.goto (-39), 3) := dk_167 255 217 (dk_at dksX1_passes_3 0 rfl rfl)
theorem dX1_passes_71 : decode cX1_passes 71 = .ok (.iconst (-1), 1) := dk_2 (dk_at dksX1_passes_3 3 rfl rfl)
theorem dX1_passes_72 : decode cX1_passes 72 = .ok (.ireturn, 1) := dk_172 (dk_at dksX1_passes_3 4 rfl rfl)
abbrev cX1_feeds : ByteArray := prog_1_method_25_code
def yX1_feeds : MethodName := ⟨RX1, "feeds", "(II)I"⟩
def dkwX1_feeds_4 : List UInt8 := [167, 255, 181, 2, 172]
abbrev dktX1_feeds_4 : List UInt8 := dkwX1_feeds_4 ++ []
def dkwX1_feeds_3 : List UInt8 := [132, 4, 1, 167, 255, 240, 42, 180, 0, 36, 27, 182, 1, 19, 155, 0, 5, 29, 172, 132, 3, 1]
abbrev dktX1_feeds_3 : List UInt8 := dkwX1_feeds_3 ++ dktX1_feeds_4
def dkwX1_feeds_2 : List UInt8 := [180, 1, 13, 27, 29, 79, 3, 54, 4, 21, 4, 28, 162, 0, 16, 42, 180, 0, 36, 182, 1, 62]
abbrev dktX1_feeds_2 : List UInt8 := dkwX1_feeds_2 ++ dktX1_feeds_3
def dkwX1_feeds_1 : List UInt8 := [180, 0, 25, 182, 0, 91, 180, 0, 239, 27, 46, 2, 159, 0, 59, 42, 182, 1, 59, 87, 42, 180, 0, 36]
abbrev dktX1_feeds_1 : List UInt8 := dkwX1_feeds_1 ++ dktX1_feeds_2
def dkwX1_feeds_0 : List UInt8 := [42, 27, 182, 1, 10, 42, 28, 3, 16, 99, 182, 0, 131, 3, 62, 29, 16, 10, 162, 0, 75, 42]
abbrev dktX1_feeds_0 : List UInt8 := dkwX1_feeds_0 ++ dktX1_feeds_1
theorem dksX1_feeds_0 : cX1_feeds.data.toList.drop 0 = dktX1_feeds_0 := by decide +kernel
theorem dksX1_feeds_1 : cX1_feeds.data.toList.drop 22 = dktX1_feeds_1 := dk_seg dksX1_feeds_0 22 rfl rfl
theorem dksX1_feeds_2 : cX1_feeds.data.toList.drop 46 = dktX1_feeds_2 := dk_seg dksX1_feeds_1 24 rfl rfl
theorem dksX1_feeds_3 : cX1_feeds.data.toList.drop 68 = dktX1_feeds_3 := dk_seg dksX1_feeds_2 22 rfl rfl
theorem dksX1_feeds_4 : cX1_feeds.data.toList.drop 90 = dktX1_feeds_4 := dk_seg dksX1_feeds_3 22 rfl rfl
theorem dX1_feeds_0 : decode cX1_feeds 0 = .ok (.aload_n 0, 1) := dk_42 (dk_at dksX1_feeds_0 0 rfl rfl)
theorem dX1_feeds_1 : decode cX1_feeds 1 = .ok (.iload_n 1, 1) := dk_27 (dk_at dksX1_feeds_0 1 rfl rfl)
theorem dX1_feeds_2 : decode cX1_feeds 2 = .ok (.invokevirtual 266, 3) := dk_182 1 10 (dk_at dksX1_feeds_0 2 rfl rfl)
theorem dX1_feeds_5 : decode cX1_feeds 5 = .ok (.aload_n 0, 1) := dk_42 (dk_at dksX1_feeds_0 5 rfl rfl)
theorem dX1_feeds_6 : decode cX1_feeds 6 = .ok (.iload_n 2, 1) := dk_28 (dk_at dksX1_feeds_0 6 rfl rfl)
theorem dX1_feeds_7 : decode cX1_feeds 7 = .ok (.iconst 0, 1) := dk_3 (dk_at dksX1_feeds_0 7 rfl rfl)
theorem dX1_feeds_8 : decode cX1_feeds 8 = .ok (.bipush 99, 2) := dk_16 99 (dk_at dksX1_feeds_0 8 rfl rfl)
theorem dX1_feeds_10 : decode cX1_feeds 10 = .ok (.invokevirtual 131, 3) := dk_182 0 131 (dk_at dksX1_feeds_0 10 rfl rfl)
theorem dX1_feeds_13 : decode cX1_feeds 13 = .ok (.iconst 0, 1) := dk_3 (dk_at dksX1_feeds_0 13 rfl rfl)
theorem dX1_feeds_14 : decode cX1_feeds 14 = .ok (.istore_n 3, 1) := dk_62 (dk_at dksX1_feeds_0 14 rfl rfl)
theorem dX1_feeds_15 : decode cX1_feeds 15 = .ok (.iload_n 3, 1) := dk_29 (dk_at dksX1_feeds_0 15 rfl rfl)
theorem dX1_feeds_16 : decode cX1_feeds 16 = .ok (.bipush 10, 2) := dk_16 10 (dk_at dksX1_feeds_0 16 rfl rfl)
theorem dX1_feeds_18 : decode cX1_feeds 18 = .ok (.if_icmp .ge 75, 3) := dk_162 0 75 (dk_at dksX1_feeds_0 18 rfl rfl)
theorem dX1_feeds_21 : decode cX1_feeds 21 = .ok (.aload_n 0, 1) := dk_42 (dk_at dksX1_feeds_0 21 rfl rfl)
theorem dX1_feeds_22 : decode cX1_feeds 22 = .ok (.getfield 25, 3) := dk_180 0 25 (dk_at dksX1_feeds_1 0 rfl rfl)
theorem dX1_feeds_25 : decode cX1_feeds 25 = .ok (.invokevirtual 91, 3) := dk_182 0 91 (dk_at dksX1_feeds_1 3 rfl rfl)
theorem dX1_feeds_28 : decode cX1_feeds 28 = .ok (.getfield 239, 3) := dk_180 0 239 (dk_at dksX1_feeds_1 6 rfl rfl)
theorem dX1_feeds_31 : decode cX1_feeds 31 = .ok (.iload_n 1, 1) := dk_27 (dk_at dksX1_feeds_1 9 rfl rfl)
theorem dX1_feeds_32 : decode cX1_feeds 32 = .ok (.iaload, 1) := dk_46 (dk_at dksX1_feeds_1 10 rfl rfl)
theorem dX1_feeds_33 : decode cX1_feeds 33 = .ok (.iconst (-1), 1) := dk_2 (dk_at dksX1_feeds_1 11 rfl rfl)
theorem dX1_feeds_34 : decode cX1_feeds 34 = .ok (.if_icmp .eq 59, 3) := dk_159 0 59 (dk_at dksX1_feeds_1 12 rfl rfl)
theorem dX1_feeds_37 : decode cX1_feeds 37 = .ok (.aload_n 0, 1) := dk_42 (dk_at dksX1_feeds_1 15 rfl rfl)
theorem dX1_feeds_38 : decode cX1_feeds 38 = .ok (.invokevirtual 315, 3) := dk_182 1 59 (dk_at dksX1_feeds_1 16 rfl rfl)
theorem dX1_feeds_41 : decode cX1_feeds 41 = .ok (.pop, 1) := dk_87 (dk_at dksX1_feeds_1 19 rfl rfl)
theorem dX1_feeds_42 : decode cX1_feeds 42 = .ok (.aload_n 0, 1) := dk_42 (dk_at dksX1_feeds_1 20 rfl rfl)
theorem dX1_feeds_43 : decode cX1_feeds 43 = .ok (.getfield 36, 3) := dk_180 0 36 (dk_at dksX1_feeds_1 21 rfl rfl)
theorem dX1_feeds_46 : decode cX1_feeds 46 = .ok (.getfield 269, 3) := dk_180 1 13 (dk_at dksX1_feeds_2 0 rfl rfl)
theorem dX1_feeds_49 : decode cX1_feeds 49 = .ok (.iload_n 1, 1) := dk_27 (dk_at dksX1_feeds_2 3 rfl rfl)
theorem dX1_feeds_50 : decode cX1_feeds 50 = .ok (.iload_n 3, 1) := dk_29 (dk_at dksX1_feeds_2 4 rfl rfl)
theorem dX1_feeds_51 : decode cX1_feeds 51 = .ok (.iastore, 1) := dk_79 (dk_at dksX1_feeds_2 5 rfl rfl)
theorem dX1_feeds_52 : decode cX1_feeds 52 = .ok (.iconst 0, 1) := dk_3 (dk_at dksX1_feeds_2 6 rfl rfl)
theorem dX1_feeds_53 : decode cX1_feeds 53 = .ok (.istore 4, 2) := dk_54 4 (dk_at dksX1_feeds_2 7 rfl rfl)
theorem dX1_feeds_55 : decode cX1_feeds 55 = .ok (.iload 4, 2) := dk_21 4 (dk_at dksX1_feeds_2 9 rfl rfl)
theorem dX1_feeds_57 : decode cX1_feeds 57 = .ok (.iload_n 2, 1) := dk_28 (dk_at dksX1_feeds_2 11 rfl rfl)
theorem dX1_feeds_58 : decode cX1_feeds 58 = .ok (.if_icmp .ge 16, 3) := dk_162 0 16 (dk_at dksX1_feeds_2 12 rfl rfl)
theorem dX1_feeds_61 : decode cX1_feeds 61 = .ok (.aload_n 0, 1) := dk_42 (dk_at dksX1_feeds_2 15 rfl rfl)
theorem dX1_feeds_62 : decode cX1_feeds 62 = .ok (.getfield 36, 3) := dk_180 0 36 (dk_at dksX1_feeds_2 16 rfl rfl)
theorem dX1_feeds_65 : decode cX1_feeds 65 = .ok (.invokevirtual 318, 3) := dk_182 1 62 (dk_at dksX1_feeds_2 19 rfl rfl)
theorem dX1_feeds_68 : decode cX1_feeds 68 = .ok (.iinc 4 1, 3) := dk_132 4 1 (dk_at dksX1_feeds_3 0 rfl rfl)
theorem dX1_feeds_71 : decode cX1_feeds 71 = .ok (.goto (-16), 3) := dk_167 255 240 (dk_at dksX1_feeds_3 3 rfl rfl)
theorem dX1_feeds_74 : decode cX1_feeds 74 = .ok (.aload_n 0, 1) := dk_42 (dk_at dksX1_feeds_3 6 rfl rfl)
theorem dX1_feeds_75 : decode cX1_feeds 75 = .ok (.getfield 36, 3) := dk_180 0 36 (dk_at dksX1_feeds_3 7 rfl rfl)
theorem dX1_feeds_78 : decode cX1_feeds 78 = .ok (.iload_n 1, 1) := dk_27 (dk_at dksX1_feeds_3 10 rfl rfl)
theorem dX1_feeds_79 : decode cX1_feeds 79 = .ok (.invokevirtual 275, 3) := dk_182 1 19 (dk_at dksX1_feeds_3 11 rfl rfl)
theorem dX1_feeds_82 : decode cX1_feeds 82 = .ok (.ifCond .lt 5, 3) := dk_155 0 5 (dk_at dksX1_feeds_3 14 rfl rfl)
theorem dX1_feeds_85 : decode cX1_feeds 85 = .ok (.iload_n 3, 1) := dk_29 (dk_at dksX1_feeds_3 17 rfl rfl)
theorem dX1_feeds_86 : decode cX1_feeds 86 = .ok (.ireturn, 1) := dk_172 (dk_at dksX1_feeds_3 18 rfl rfl)
theorem dX1_feeds_87 : decode cX1_feeds 87 = .ok (.iinc 3 1, 3) := dk_132 3 1 (dk_at dksX1_feeds_3 19 rfl rfl)
theorem dX1_feeds_90 : decode cX1_feeds 90 = .ok (.goto (-75), 3) := dk_167 255 181 (dk_at dksX1_feeds_4 0 rfl rfl)
theorem dX1_feeds_93 : decode cX1_feeds 93 = .ok (.iconst (-1), 1) := dk_2 (dk_at dksX1_feeds_4 3 rfl rfl)
theorem dX1_feeds_94 : decode cX1_feeds 94 = .ok (.ireturn, 1) := dk_172 (dk_at dksX1_feeds_4 4 rfl rfl)
abbrev cX1_mate : ByteArray := prog_1_method_27_code
def yX1_mate : MethodName := ⟨RX1, "mate", "(I)I"⟩
def dkwX1_mate_1 : List UInt8 := [180, 1, 74, 27, 46, 172]
abbrev dktX1_mate_1 : List UInt8 := dkwX1_mate_1 ++ []
def dkwX1_mate_0 : List UInt8 := [42, 27, 182, 1, 10, 42, 180, 0, 43, 42, 180, 0, 25, 182, 0, 91, 182, 1, 68, 42, 180, 0, 43]
abbrev dktX1_mate_0 : List UInt8 := dkwX1_mate_0 ++ dktX1_mate_1
theorem dksX1_mate_0 : cX1_mate.data.toList.drop 0 = dktX1_mate_0 := by decide +kernel
theorem dksX1_mate_1 : cX1_mate.data.toList.drop 23 = dktX1_mate_1 := dk_seg dksX1_mate_0 23 rfl rfl
theorem dX1_mate_0 : decode cX1_mate 0 = .ok (.aload_n 0, 1) := dk_42 (dk_at dksX1_mate_0 0 rfl rfl)
theorem dX1_mate_1 : decode cX1_mate 1 = .ok (.iload_n 1, 1) := dk_27 (dk_at dksX1_mate_0 1 rfl rfl)
theorem dX1_mate_2 : decode cX1_mate 2 = .ok (.invokevirtual 266, 3) := dk_182 1 10 (dk_at dksX1_mate_0 2 rfl rfl)
theorem dX1_mate_5 : decode cX1_mate 5 = .ok (.aload_n 0, 1) := dk_42 (dk_at dksX1_mate_0 5 rfl rfl)
theorem dX1_mate_6 : decode cX1_mate 6 = .ok (.getfield 43, 3) := dk_180 0 43 (dk_at dksX1_mate_0 6 rfl rfl)
theorem dX1_mate_9 : decode cX1_mate 9 = .ok (.aload_n 0, 1) := dk_42 (dk_at dksX1_mate_0 9 rfl rfl)
theorem dX1_mate_10 : decode cX1_mate 10 = .ok (.getfield 25, 3) := dk_180 0 25 (dk_at dksX1_mate_0 10 rfl rfl)
theorem dX1_mate_13 : decode cX1_mate 13 = .ok (.invokevirtual 91, 3) := dk_182 0 91 (dk_at dksX1_mate_0 13 rfl rfl)
theorem dX1_mate_16 : decode cX1_mate 16 = .ok (.invokevirtual 324, 3) := dk_182 1 68 (dk_at dksX1_mate_0 16 rfl rfl)
theorem dX1_mate_19 : decode cX1_mate 19 = .ok (.aload_n 0, 1) := dk_42 (dk_at dksX1_mate_0 19 rfl rfl)
theorem dX1_mate_20 : decode cX1_mate 20 = .ok (.getfield 43, 3) := dk_180 0 43 (dk_at dksX1_mate_0 20 rfl rfl)
theorem dX1_mate_23 : decode cX1_mate 23 = .ok (.getfield 330, 3) := dk_180 1 74 (dk_at dksX1_mate_1 0 rfl rfl)
theorem dX1_mate_26 : decode cX1_mate 26 = .ok (.iload_n 1, 1) := dk_27 (dk_at dksX1_mate_1 3 rfl rfl)
theorem dX1_mate_27 : decode cX1_mate 27 = .ok (.iaload, 1) := dk_46 (dk_at dksX1_mate_1 4 rfl rfl)
theorem dX1_mate_28 : decode cX1_mate 28 = .ok (.ireturn, 1) := dk_172 (dk_at dksX1_mate_1 5 rfl rfl)
abbrev cX1_rung : ByteArray := prog_1_method_30_code
def yX1_rung : MethodName := ⟨RX1, "rung", "(I)I"⟩
def dkwX1_rung_1 : List UInt8 := [167, 0, 4, 2, 172]
abbrev dktX1_rung_1 : List UInt8 := dkwX1_rung_1 ++ []
def dkwX1_rung_0 : List UInt8 := [42, 27, 3, 19, 1, 85, 182, 0, 131, 27, 42, 182, 1, 80, 162, 0, 12, 42, 180, 0, 73, 27, 46]
abbrev dktX1_rung_0 : List UInt8 := dkwX1_rung_0 ++ dktX1_rung_1
theorem dksX1_rung_0 : cX1_rung.data.toList.drop 0 = dktX1_rung_0 := by decide +kernel
theorem dksX1_rung_1 : cX1_rung.data.toList.drop 23 = dktX1_rung_1 := dk_seg dksX1_rung_0 23 rfl rfl
theorem dX1_rung_0 : decode cX1_rung 0 = .ok (.aload_n 0, 1) := dk_42 (dk_at dksX1_rung_0 0 rfl rfl)
theorem dX1_rung_1 : decode cX1_rung 1 = .ok (.iload_n 1, 1) := dk_27 (dk_at dksX1_rung_0 1 rfl rfl)
theorem dX1_rung_2 : decode cX1_rung 2 = .ok (.iconst 0, 1) := dk_3 (dk_at dksX1_rung_0 2 rfl rfl)
theorem dX1_rung_3 : decode cX1_rung 3 = .ok (.ldc_w 341, 3) := dk_19 1 85 (dk_at dksX1_rung_0 3 rfl rfl)
theorem dX1_rung_6 : decode cX1_rung 6 = .ok (.invokevirtual 131, 3) := dk_182 0 131 (dk_at dksX1_rung_0 6 rfl rfl)
theorem dX1_rung_9 : decode cX1_rung 9 = .ok (.iload_n 1, 1) := dk_27 (dk_at dksX1_rung_0 9 rfl rfl)
theorem dX1_rung_10 : decode cX1_rung 10 = .ok (.aload_n 0, 1) := dk_42 (dk_at dksX1_rung_0 10 rfl rfl)
theorem dX1_rung_11 : decode cX1_rung 11 = .ok (.invokevirtual 336, 3) := dk_182 1 80 (dk_at dksX1_rung_0 11 rfl rfl)
theorem dX1_rung_14 : decode cX1_rung 14 = .ok (.if_icmp .ge 12, 3) := dk_162 0 12 (dk_at dksX1_rung_0 14 rfl rfl)
theorem dX1_rung_17 : decode cX1_rung 17 = .ok (.aload_n 0, 1) := dk_42 (dk_at dksX1_rung_0 17 rfl rfl)
theorem dX1_rung_18 : decode cX1_rung 18 = .ok (.getfield 73, 3) := dk_180 0 73 (dk_at dksX1_rung_0 18 rfl rfl)
theorem dX1_rung_21 : decode cX1_rung 21 = .ok (.iload_n 1, 1) := dk_27 (dk_at dksX1_rung_0 21 rfl rfl)
theorem dX1_rung_22 : decode cX1_rung 22 = .ok (.iaload, 1) := dk_46 (dk_at dksX1_rung_0 22 rfl rfl)
theorem dX1_rung_23 : decode cX1_rung 23 = .ok (.goto 4, 3) := dk_167 0 4 (dk_at dksX1_rung_1 0 rfl rfl)
theorem dX1_rung_26 : decode cX1_rung 26 = .ok (.iconst (-1), 1) := dk_2 (dk_at dksX1_rung_1 3 rfl rfl)
theorem dX1_rung_27 : decode cX1_rung 27 = .ok (.ireturn, 1) := dk_172 (dk_at dksX1_rung_1 4 rfl rfl)
abbrev cX1_fits : ByteArray := prog_1_method_32_code
def yX1_fits : MethodName := ⟨RX1, "fits", "(II)I"⟩
def dkwX1_fits_3 : List UInt8 := [21, 4, 172]
abbrev dktX1_fits_3 : List UInt8 := dkwX1_fits_3 ++ []
def dkwX1_fits_2 : List UInt8 := [132, 3, 1, 154, 0, 7, 21, 5, 54, 4, 132, 5, 1, 167, 255, 217, 28, 154, 0, 7, 29, 167, 0, 5]
abbrev dktX1_fits_2 : List UInt8 := dkwX1_fits_2 ++ dktX1_fits_3
def dkwX1_fits_1 : List UInt8 := [162, 0, 38, 42, 27, 21, 5, 16, 10, 108, 21, 5, 16, 10, 112, 182, 1, 89, 153, 0, 14, 29]
abbrev dktX1_fits_1 : List UInt8 := dkwX1_fits_1 ++ dktX1_fits_2
def dkwX1_fits_0 : List UInt8 := [42, 27, 182, 1, 10, 42, 28, 3, 4, 182, 0, 131, 3, 62, 2, 54, 4, 3, 54, 5, 21, 5, 16, 100]
abbrev dktX1_fits_0 : List UInt8 := dkwX1_fits_0 ++ dktX1_fits_1
theorem dksX1_fits_0 : cX1_fits.data.toList.drop 0 = dktX1_fits_0 := by decide +kernel
theorem dksX1_fits_1 : cX1_fits.data.toList.drop 24 = dktX1_fits_1 := dk_seg dksX1_fits_0 24 rfl rfl
theorem dksX1_fits_2 : cX1_fits.data.toList.drop 46 = dktX1_fits_2 := dk_seg dksX1_fits_1 22 rfl rfl
theorem dksX1_fits_3 : cX1_fits.data.toList.drop 70 = dktX1_fits_3 := dk_seg dksX1_fits_2 24 rfl rfl
theorem dX1_fits_0 : decode cX1_fits 0 = .ok (.aload_n 0, 1) := dk_42 (dk_at dksX1_fits_0 0 rfl rfl)
theorem dX1_fits_1 : decode cX1_fits 1 = .ok (.iload_n 1, 1) := dk_27 (dk_at dksX1_fits_0 1 rfl rfl)
theorem dX1_fits_2 : decode cX1_fits 2 = .ok (.invokevirtual 266, 3) := dk_182 1 10 (dk_at dksX1_fits_0 2 rfl rfl)
theorem dX1_fits_5 : decode cX1_fits 5 = .ok (.aload_n 0, 1) := dk_42 (dk_at dksX1_fits_0 5 rfl rfl)
theorem dX1_fits_6 : decode cX1_fits 6 = .ok (.iload_n 2, 1) := dk_28 (dk_at dksX1_fits_0 6 rfl rfl)
theorem dX1_fits_7 : decode cX1_fits 7 = .ok (.iconst 0, 1) := dk_3 (dk_at dksX1_fits_0 7 rfl rfl)
theorem dX1_fits_8 : decode cX1_fits 8 = .ok (.iconst 1, 1) := dk_4 (dk_at dksX1_fits_0 8 rfl rfl)
theorem dX1_fits_9 : decode cX1_fits 9 = .ok (.invokevirtual 131, 3) := dk_182 0 131 (dk_at dksX1_fits_0 9 rfl rfl)
theorem dX1_fits_12 : decode cX1_fits 12 = .ok (.iconst 0, 1) := dk_3 (dk_at dksX1_fits_0 12 rfl rfl)
theorem dX1_fits_13 : decode cX1_fits 13 = .ok (.istore_n 3, 1) := dk_62 (dk_at dksX1_fits_0 13 rfl rfl)
theorem dX1_fits_14 : decode cX1_fits 14 = .ok (.iconst (-1), 1) := dk_2 (dk_at dksX1_fits_0 14 rfl rfl)
theorem dX1_fits_15 : decode cX1_fits 15 = .ok (.istore 4, 2) := dk_54 4 (dk_at dksX1_fits_0 15 rfl rfl)
theorem dX1_fits_17 : decode cX1_fits 17 = .ok (.iconst 0, 1) := dk_3 (dk_at dksX1_fits_0 17 rfl rfl)
theorem dX1_fits_18 : decode cX1_fits 18 = .ok (.istore 5, 2) := dk_54 5 (dk_at dksX1_fits_0 18 rfl rfl)
theorem dX1_fits_20 : decode cX1_fits 20 = .ok (.iload 5, 2) := dk_21 5 (dk_at dksX1_fits_0 20 rfl rfl)
theorem dX1_fits_22 : decode cX1_fits 22 = .ok (.bipush 100, 2) := dk_16 100 (dk_at dksX1_fits_0 22 rfl rfl)
theorem dX1_fits_24 : decode cX1_fits 24 = .ok (.if_icmp .ge 38, 3) := dk_162 0 38 (dk_at dksX1_fits_1 0 rfl rfl)
theorem dX1_fits_27 : decode cX1_fits 27 = .ok (.aload_n 0, 1) := dk_42 (dk_at dksX1_fits_1 3 rfl rfl)
theorem dX1_fits_28 : decode cX1_fits 28 = .ok (.iload_n 1, 1) := dk_27 (dk_at dksX1_fits_1 4 rfl rfl)
theorem dX1_fits_29 : decode cX1_fits 29 = .ok (.iload 5, 2) := dk_21 5 (dk_at dksX1_fits_1 5 rfl rfl)
theorem dX1_fits_31 : decode cX1_fits 31 = .ok (.bipush 10, 2) := dk_16 10 (dk_at dksX1_fits_1 7 rfl rfl)
theorem dX1_fits_33 : decode cX1_fits 33 = .ok (.idiv, 1) := dk_108 (dk_at dksX1_fits_1 9 rfl rfl)
theorem dX1_fits_34 : decode cX1_fits 34 = .ok (.iload 5, 2) := dk_21 5 (dk_at dksX1_fits_1 10 rfl rfl)
theorem dX1_fits_36 : decode cX1_fits 36 = .ok (.bipush 10, 2) := dk_16 10 (dk_at dksX1_fits_1 12 rfl rfl)
theorem dX1_fits_38 : decode cX1_fits 38 = .ok (.irem, 1) := dk_112 (dk_at dksX1_fits_1 14 rfl rfl)
theorem dX1_fits_39 : decode cX1_fits 39 = .ok (.invokevirtual 345, 3) := dk_182 1 89 (dk_at dksX1_fits_1 15 rfl rfl)
theorem dX1_fits_42 : decode cX1_fits 42 = .ok (.ifCond .eq 14, 3) := dk_153 0 14 (dk_at dksX1_fits_1 18 rfl rfl)
theorem dX1_fits_45 : decode cX1_fits 45 = .ok (.iload_n 3, 1) := dk_29 (dk_at dksX1_fits_1 21 rfl rfl)
theorem dX1_fits_46 : decode cX1_fits 46 = .ok (.iinc 3 1, 3) := dk_132 3 1 (dk_at dksX1_fits_2 0 rfl rfl)
theorem dX1_fits_49 : decode cX1_fits 49 = .ok (.ifCond .ne 7, 3) := dk_154 0 7 (dk_at dksX1_fits_2 3 rfl rfl)
theorem dX1_fits_52 : decode cX1_fits 52 = .ok (.iload 5, 2) := dk_21 5 (dk_at dksX1_fits_2 6 rfl rfl)
theorem dX1_fits_54 : decode cX1_fits 54 = .ok (.istore 4, 2) := dk_54 4 (dk_at dksX1_fits_2 8 rfl rfl)
theorem dX1_fits_56 : decode cX1_fits 56 = .ok (.iinc 5 1, 3) := dk_132 5 1 (dk_at dksX1_fits_2 10 rfl rfl)
theorem dX1_fits_59 : decode cX1_fits 59 = .ok (.goto (-39), 3) := dk_167 255 217 (dk_at dksX1_fits_2 13 rfl rfl)
theorem dX1_fits_62 : decode cX1_fits 62 = .ok (.iload_n 2, 1) := dk_28 (dk_at dksX1_fits_2 16 rfl rfl)
theorem dX1_fits_63 : decode cX1_fits 63 = .ok (.ifCond .ne 7, 3) := dk_154 0 7 (dk_at dksX1_fits_2 17 rfl rfl)
theorem dX1_fits_66 : decode cX1_fits 66 = .ok (.iload_n 3, 1) := dk_29 (dk_at dksX1_fits_2 20 rfl rfl)
theorem dX1_fits_67 : decode cX1_fits 67 = .ok (.goto 5, 3) := dk_167 0 5 (dk_at dksX1_fits_2 21 rfl rfl)
theorem dX1_fits_70 : decode cX1_fits 70 = .ok (.iload 4, 2) := dk_21 4 (dk_at dksX1_fits_3 0 rfl rfl)
theorem dX1_fits_72 : decode cX1_fits 72 = .ok (.ireturn, 1) := dk_172 (dk_at dksX1_fits_3 2 rfl rfl)
abbrev cX1_isGrown : ByteArray := prog_1_method_31_code
def yX1_isGrown : MethodName := ⟨RX1, "isGrown", "(III)Z"⟩
def dkwX1_isGrown_4 : List UInt8 := [159, 0, 5, 3, 172, 132, 4, 1, 167, 255, 220, 4, 172]
abbrev dktX1_isGrown_4 : List UInt8 := dkwX1_isGrown_4 ++ []
def dkwX1_isGrown_3 : List UInt8 := [162, 0, 33, 42, 180, 0, 64, 42, 180, 0, 58, 21, 4, 46, 46, 42, 180, 0, 61, 21, 4, 46]
abbrev dktX1_isGrown_3 : List UInt8 := dkwX1_isGrown_3 ++ dktX1_isGrown_4
def dkwX1_isGrown_2 : List UInt8 := [180, 0, 36, 180, 0, 248, 27, 46, 79, 132, 4, 1, 167, 255, 223, 3, 54, 4, 21, 4, 42, 180, 0, 159]
abbrev dktX1_isGrown_2 : List UInt8 := dkwX1_isGrown_2 ++ dktX1_isGrown_3
def dkwX1_isGrown_1 : List UInt8 := [54, 4, 21, 4, 16, 12, 163, 0, 32, 42, 180, 0, 36, 182, 1, 62, 42, 180, 0, 64, 21, 4, 42]
abbrev dktX1_isGrown_1 : List UInt8 := dkwX1_isGrown_1 ++ dktX1_isGrown_2
def dkwX1_isGrown_0 : List UInt8 := [42, 182, 1, 59, 87, 42, 180, 0, 36, 180, 1, 13, 27, 28, 79, 42, 180, 0, 36, 29, 181, 1, 86, 4]
abbrev dktX1_isGrown_0 : List UInt8 := dkwX1_isGrown_0 ++ dktX1_isGrown_1
theorem dksX1_isGrown_0 : cX1_isGrown.data.toList.drop 0 = dktX1_isGrown_0 := by decide +kernel
theorem dksX1_isGrown_1 : cX1_isGrown.data.toList.drop 24 = dktX1_isGrown_1 := dk_seg dksX1_isGrown_0 24 rfl rfl
theorem dksX1_isGrown_2 : cX1_isGrown.data.toList.drop 47 = dktX1_isGrown_2 := dk_seg dksX1_isGrown_1 23 rfl rfl
theorem dksX1_isGrown_3 : cX1_isGrown.data.toList.drop 71 = dktX1_isGrown_3 := dk_seg dksX1_isGrown_2 24 rfl rfl
theorem dksX1_isGrown_4 : cX1_isGrown.data.toList.drop 93 = dktX1_isGrown_4 := dk_seg dksX1_isGrown_3 22 rfl rfl
theorem dX1_isGrown_0 : decode cX1_isGrown 0 = .ok (.aload_n 0, 1) := dk_42 (dk_at dksX1_isGrown_0 0 rfl rfl)
theorem dX1_isGrown_1 : decode cX1_isGrown 1 = .ok (.invokevirtual 315, 3) := dk_182 1 59 (dk_at dksX1_isGrown_0 1 rfl rfl)
theorem dX1_isGrown_4 : decode cX1_isGrown 4 = .ok (.pop, 1) := dk_87 (dk_at dksX1_isGrown_0 4 rfl rfl)
theorem dX1_isGrown_5 : decode cX1_isGrown 5 = .ok (.aload_n 0, 1) := dk_42 (dk_at dksX1_isGrown_0 5 rfl rfl)
theorem dX1_isGrown_6 : decode cX1_isGrown 6 = .ok (.getfield 36, 3) := dk_180 0 36 (dk_at dksX1_isGrown_0 6 rfl rfl)
theorem dX1_isGrown_9 : decode cX1_isGrown 9 = .ok (.getfield 269, 3) := dk_180 1 13 (dk_at dksX1_isGrown_0 9 rfl rfl)
theorem dX1_isGrown_12 : decode cX1_isGrown 12 = .ok (.iload_n 1, 1) := dk_27 (dk_at dksX1_isGrown_0 12 rfl rfl)
theorem dX1_isGrown_13 : decode cX1_isGrown 13 = .ok (.iload_n 2, 1) := dk_28 (dk_at dksX1_isGrown_0 13 rfl rfl)
theorem dX1_isGrown_14 : decode cX1_isGrown 14 = .ok (.iastore, 1) := dk_79 (dk_at dksX1_isGrown_0 14 rfl rfl)
theorem dX1_isGrown_15 : decode cX1_isGrown 15 = .ok (.aload_n 0, 1) := dk_42 (dk_at dksX1_isGrown_0 15 rfl rfl)
theorem dX1_isGrown_16 : decode cX1_isGrown 16 = .ok (.getfield 36, 3) := dk_180 0 36 (dk_at dksX1_isGrown_0 16 rfl rfl)
theorem dX1_isGrown_19 : decode cX1_isGrown 19 = .ok (.iload_n 3, 1) := dk_29 (dk_at dksX1_isGrown_0 19 rfl rfl)
theorem dX1_isGrown_20 : decode cX1_isGrown 20 = .ok (.putfield 342, 3) := dk_181 1 86 (dk_at dksX1_isGrown_0 20 rfl rfl)
theorem dX1_isGrown_23 : decode cX1_isGrown 23 = .ok (.iconst 1, 1) := dk_4 (dk_at dksX1_isGrown_0 23 rfl rfl)
theorem dX1_isGrown_24 : decode cX1_isGrown 24 = .ok (.istore 4, 2) := dk_54 4 (dk_at dksX1_isGrown_1 0 rfl rfl)
theorem dX1_isGrown_26 : decode cX1_isGrown 26 = .ok (.iload 4, 2) := dk_21 4 (dk_at dksX1_isGrown_1 2 rfl rfl)
theorem dX1_isGrown_28 : decode cX1_isGrown 28 = .ok (.bipush 12, 2) := dk_16 12 (dk_at dksX1_isGrown_1 4 rfl rfl)
theorem dX1_isGrown_30 : decode cX1_isGrown 30 = .ok (.if_icmp .gt 32, 3) := dk_163 0 32 (dk_at dksX1_isGrown_1 6 rfl rfl)
theorem dX1_isGrown_33 : decode cX1_isGrown 33 = .ok (.aload_n 0, 1) := dk_42 (dk_at dksX1_isGrown_1 9 rfl rfl)
theorem dX1_isGrown_34 : decode cX1_isGrown 34 = .ok (.getfield 36, 3) := dk_180 0 36 (dk_at dksX1_isGrown_1 10 rfl rfl)
theorem dX1_isGrown_37 : decode cX1_isGrown 37 = .ok (.invokevirtual 318, 3) := dk_182 1 62 (dk_at dksX1_isGrown_1 13 rfl rfl)
theorem dX1_isGrown_40 : decode cX1_isGrown 40 = .ok (.aload_n 0, 1) := dk_42 (dk_at dksX1_isGrown_1 16 rfl rfl)
theorem dX1_isGrown_41 : decode cX1_isGrown 41 = .ok (.getfield 64, 3) := dk_180 0 64 (dk_at dksX1_isGrown_1 17 rfl rfl)
theorem dX1_isGrown_44 : decode cX1_isGrown 44 = .ok (.iload 4, 2) := dk_21 4 (dk_at dksX1_isGrown_1 20 rfl rfl)
theorem dX1_isGrown_46 : decode cX1_isGrown 46 = .ok (.aload_n 0, 1) := dk_42 (dk_at dksX1_isGrown_1 22 rfl rfl)
theorem dX1_isGrown_47 : decode cX1_isGrown 47 = .ok (.getfield 36, 3) := dk_180 0 36 (dk_at dksX1_isGrown_2 0 rfl rfl)
theorem dX1_isGrown_50 : decode cX1_isGrown 50 = .ok (.getfield 248, 3) := dk_180 0 248 (dk_at dksX1_isGrown_2 3 rfl rfl)
theorem dX1_isGrown_53 : decode cX1_isGrown 53 = .ok (.iload_n 1, 1) := dk_27 (dk_at dksX1_isGrown_2 6 rfl rfl)
theorem dX1_isGrown_54 : decode cX1_isGrown 54 = .ok (.iaload, 1) := dk_46 (dk_at dksX1_isGrown_2 7 rfl rfl)
theorem dX1_isGrown_55 : decode cX1_isGrown 55 = .ok (.iastore, 1) := dk_79 (dk_at dksX1_isGrown_2 8 rfl rfl)
theorem dX1_isGrown_56 : decode cX1_isGrown 56 = .ok (.iinc 4 1, 3) := dk_132 4 1 (dk_at dksX1_isGrown_2 9 rfl rfl)
theorem dX1_isGrown_59 : decode cX1_isGrown 59 = .ok (.goto (-33), 3) := dk_167 255 223 (dk_at dksX1_isGrown_2 12 rfl rfl)
theorem dX1_isGrown_62 : decode cX1_isGrown 62 = .ok (.iconst 0, 1) := dk_3 (dk_at dksX1_isGrown_2 15 rfl rfl)
theorem dX1_isGrown_63 : decode cX1_isGrown 63 = .ok (.istore 4, 2) := dk_54 4 (dk_at dksX1_isGrown_2 16 rfl rfl)
theorem dX1_isGrown_65 : decode cX1_isGrown 65 = .ok (.iload 4, 2) := dk_21 4 (dk_at dksX1_isGrown_2 18 rfl rfl)
theorem dX1_isGrown_67 : decode cX1_isGrown 67 = .ok (.aload_n 0, 1) := dk_42 (dk_at dksX1_isGrown_2 20 rfl rfl)
theorem dX1_isGrown_68 : decode cX1_isGrown 68 = .ok (.getfield 159, 3) := dk_180 0 159 (dk_at dksX1_isGrown_2 21 rfl rfl)
theorem dX1_isGrown_71 : decode cX1_isGrown 71 = .ok (.if_icmp .ge 33, 3) := dk_162 0 33 (dk_at dksX1_isGrown_3 0 rfl rfl)
theorem dX1_isGrown_74 : decode cX1_isGrown 74 = .ok (.aload_n 0, 1) := dk_42 (dk_at dksX1_isGrown_3 3 rfl rfl)
theorem dX1_isGrown_75 : decode cX1_isGrown 75 = .ok (.getfield 64, 3) := dk_180 0 64 (dk_at dksX1_isGrown_3 4 rfl rfl)
theorem dX1_isGrown_78 : decode cX1_isGrown 78 = .ok (.aload_n 0, 1) := dk_42 (dk_at dksX1_isGrown_3 7 rfl rfl)
theorem dX1_isGrown_79 : decode cX1_isGrown 79 = .ok (.getfield 58, 3) := dk_180 0 58 (dk_at dksX1_isGrown_3 8 rfl rfl)
theorem dX1_isGrown_82 : decode cX1_isGrown 82 = .ok (.iload 4, 2) := dk_21 4 (dk_at dksX1_isGrown_3 11 rfl rfl)
theorem dX1_isGrown_84 : decode cX1_isGrown 84 = .ok (.iaload, 1) := dk_46 (dk_at dksX1_isGrown_3 13 rfl rfl)
theorem dX1_isGrown_85 : decode cX1_isGrown 85 = .ok (.iaload, 1) := dk_46 (dk_at dksX1_isGrown_3 14 rfl rfl)
theorem dX1_isGrown_86 : decode cX1_isGrown 86 = .ok (.aload_n 0, 1) := dk_42 (dk_at dksX1_isGrown_3 15 rfl rfl)
theorem dX1_isGrown_87 : decode cX1_isGrown 87 = .ok (.getfield 61, 3) := dk_180 0 61 (dk_at dksX1_isGrown_3 16 rfl rfl)
theorem dX1_isGrown_90 : decode cX1_isGrown 90 = .ok (.iload 4, 2) := dk_21 4 (dk_at dksX1_isGrown_3 19 rfl rfl)
theorem dX1_isGrown_92 : decode cX1_isGrown 92 = .ok (.iaload, 1) := dk_46 (dk_at dksX1_isGrown_3 21 rfl rfl)
theorem dX1_isGrown_93 : decode cX1_isGrown 93 = .ok (.if_icmp .eq 5, 3) := dk_159 0 5 (dk_at dksX1_isGrown_4 0 rfl rfl)
theorem dX1_isGrown_96 : decode cX1_isGrown 96 = .ok (.iconst 0, 1) := dk_3 (dk_at dksX1_isGrown_4 3 rfl rfl)
theorem dX1_isGrown_97 : decode cX1_isGrown 97 = .ok (.ireturn, 1) := dk_172 (dk_at dksX1_isGrown_4 4 rfl rfl)
theorem dX1_isGrown_98 : decode cX1_isGrown 98 = .ok (.iinc 4 1, 3) := dk_132 4 1 (dk_at dksX1_isGrown_4 5 rfl rfl)
theorem dX1_isGrown_101 : decode cX1_isGrown 101 = .ok (.goto (-36), 3) := dk_167 255 220 (dk_at dksX1_isGrown_4 8 rfl rfl)
theorem dX1_isGrown_104 : decode cX1_isGrown 104 = .ok (.iconst 1, 1) := dk_4 (dk_at dksX1_isGrown_4 11 rfl rfl)
theorem dX1_isGrown_105 : decode cX1_isGrown 105 = .ok (.ireturn, 1) := dk_172 (dk_at dksX1_isGrown_4 12 rfl rfl)
abbrev cX1_look : ByteArray := prog_1_method_35_code
def yX1_look : MethodName := ⟨RX1, "look", "(II)I"⟩
def dkwX1_look_3 : List UInt8 := [132, 5, 1, 167, 255, 203, 28, 154, 0, 7, 29, 167, 0, 5, 21, 4, 172]
abbrev dktX1_look_3 : List UInt8 := dkwX1_look_3 ++ []
def dkwX1_look_2 : List UInt8 := [29, 2, 159, 0, 13, 21, 6, 21, 4, 161, 0, 6, 167, 0, 10, 21, 5, 62, 21, 6, 54, 4]
abbrev dktX1_look_2 : List UInt8 := dkwX1_look_2 ++ dktX1_look_3
def dkwX1_look_1 : List UInt8 := [163, 0, 52, 42, 21, 5, 182, 1, 93, 153, 0, 6, 167, 0, 34, 42, 27, 21, 5, 182, 1, 96, 54, 6]
abbrev dktX1_look_1 : List UInt8 := dkwX1_look_1 ++ dktX1_look_2
def dkwX1_look_0 : List UInt8 := [42, 27, 182, 1, 10, 42, 28, 3, 4, 182, 0, 131, 2, 62, 2, 54, 4, 4, 54, 5, 21, 5, 16, 12]
abbrev dktX1_look_0 : List UInt8 := dkwX1_look_0 ++ dktX1_look_1
theorem dksX1_look_0 : cX1_look.data.toList.drop 0 = dktX1_look_0 := by decide +kernel
theorem dksX1_look_1 : cX1_look.data.toList.drop 24 = dktX1_look_1 := dk_seg dksX1_look_0 24 rfl rfl
theorem dksX1_look_2 : cX1_look.data.toList.drop 48 = dktX1_look_2 := dk_seg dksX1_look_1 24 rfl rfl
theorem dksX1_look_3 : cX1_look.data.toList.drop 70 = dktX1_look_3 := dk_seg dksX1_look_2 22 rfl rfl
theorem dX1_look_0 : decode cX1_look 0 = .ok (.aload_n 0, 1) := dk_42 (dk_at dksX1_look_0 0 rfl rfl)
theorem dX1_look_1 : decode cX1_look 1 = .ok (.iload_n 1, 1) := dk_27 (dk_at dksX1_look_0 1 rfl rfl)
theorem dX1_look_2 : decode cX1_look 2 = .ok (.invokevirtual 266, 3) := dk_182 1 10 (dk_at dksX1_look_0 2 rfl rfl)
theorem dX1_look_5 : decode cX1_look 5 = .ok (.aload_n 0, 1) := dk_42 (dk_at dksX1_look_0 5 rfl rfl)
theorem dX1_look_6 : decode cX1_look 6 = .ok (.iload_n 2, 1) := dk_28 (dk_at dksX1_look_0 6 rfl rfl)
theorem dX1_look_7 : decode cX1_look 7 = .ok (.iconst 0, 1) := dk_3 (dk_at dksX1_look_0 7 rfl rfl)
theorem dX1_look_8 : decode cX1_look 8 = .ok (.iconst 1, 1) := dk_4 (dk_at dksX1_look_0 8 rfl rfl)
theorem dX1_look_9 : decode cX1_look 9 = .ok (.invokevirtual 131, 3) := dk_182 0 131 (dk_at dksX1_look_0 9 rfl rfl)
theorem dX1_look_12 : decode cX1_look 12 = .ok (.iconst (-1), 1) := dk_2 (dk_at dksX1_look_0 12 rfl rfl)
theorem dX1_look_13 : decode cX1_look 13 = .ok (.istore_n 3, 1) := dk_62 (dk_at dksX1_look_0 13 rfl rfl)
theorem dX1_look_14 : decode cX1_look 14 = .ok (.iconst (-1), 1) := dk_2 (dk_at dksX1_look_0 14 rfl rfl)
theorem dX1_look_15 : decode cX1_look 15 = .ok (.istore 4, 2) := dk_54 4 (dk_at dksX1_look_0 15 rfl rfl)
theorem dX1_look_17 : decode cX1_look 17 = .ok (.iconst 1, 1) := dk_4 (dk_at dksX1_look_0 17 rfl rfl)
theorem dX1_look_18 : decode cX1_look 18 = .ok (.istore 5, 2) := dk_54 5 (dk_at dksX1_look_0 18 rfl rfl)
theorem dX1_look_20 : decode cX1_look 20 = .ok (.iload 5, 2) := dk_21 5 (dk_at dksX1_look_0 20 rfl rfl)
theorem dX1_look_22 : decode cX1_look 22 = .ok (.bipush 12, 2) := dk_16 12 (dk_at dksX1_look_0 22 rfl rfl)
theorem dX1_look_24 : decode cX1_look 24 = .ok (.if_icmp .gt 52, 3) := dk_163 0 52 (dk_at dksX1_look_1 0 rfl rfl)
theorem dX1_look_27 : decode cX1_look 27 = .ok (.aload_n 0, 1) := dk_42 (dk_at dksX1_look_1 3 rfl rfl)
theorem dX1_look_28 : decode cX1_look 28 = .ok (.iload 5, 2) := dk_21 5 (dk_at dksX1_look_1 4 rfl rfl)
theorem dX1_look_30 : decode cX1_look 30 = .ok (.invokevirtual 349, 3) := dk_182 1 93 (dk_at dksX1_look_1 6 rfl rfl)
theorem dX1_look_33 : decode cX1_look 33 = .ok (.ifCond .eq 6, 3) := dk_153 0 6 (dk_at dksX1_look_1 9 rfl rfl)
theorem dX1_look_36 : decode cX1_look 36 = .ok (.goto 34, 3) := dk_167 0 34 (dk_at dksX1_look_1 12 rfl rfl)
theorem dX1_look_39 : decode cX1_look 39 = .ok (.aload_n 0, 1) := dk_42 (dk_at dksX1_look_1 15 rfl rfl)
theorem dX1_look_40 : decode cX1_look 40 = .ok (.iload_n 1, 1) := dk_27 (dk_at dksX1_look_1 16 rfl rfl)
theorem dX1_look_41 : decode cX1_look 41 = .ok (.iload 5, 2) := dk_21 5 (dk_at dksX1_look_1 17 rfl rfl)
theorem dX1_look_43 : decode cX1_look 43 = .ok (.invokevirtual 352, 3) := dk_182 1 96 (dk_at dksX1_look_1 19 rfl rfl)
theorem dX1_look_46 : decode cX1_look 46 = .ok (.istore 6, 2) := dk_54 6 (dk_at dksX1_look_1 22 rfl rfl)
theorem dX1_look_48 : decode cX1_look 48 = .ok (.iload_n 3, 1) := dk_29 (dk_at dksX1_look_2 0 rfl rfl)
theorem dX1_look_49 : decode cX1_look 49 = .ok (.iconst (-1), 1) := dk_2 (dk_at dksX1_look_2 1 rfl rfl)
theorem dX1_look_50 : decode cX1_look 50 = .ok (.if_icmp .eq 13, 3) := dk_159 0 13 (dk_at dksX1_look_2 2 rfl rfl)
theorem dX1_look_53 : decode cX1_look 53 = .ok (.iload 6, 2) := dk_21 6 (dk_at dksX1_look_2 5 rfl rfl)
theorem dX1_look_55 : decode cX1_look 55 = .ok (.iload 4, 2) := dk_21 4 (dk_at dksX1_look_2 7 rfl rfl)
theorem dX1_look_57 : decode cX1_look 57 = .ok (.if_icmp .lt 6, 3) := dk_161 0 6 (dk_at dksX1_look_2 9 rfl rfl)
theorem dX1_look_60 : decode cX1_look 60 = .ok (.goto 10, 3) := dk_167 0 10 (dk_at dksX1_look_2 12 rfl rfl)
theorem dX1_look_63 : decode cX1_look 63 = .ok (.iload 5, 2) := dk_21 5 (dk_at dksX1_look_2 15 rfl rfl)
theorem dX1_look_65 : decode cX1_look 65 = .ok (.istore_n 3, 1) := dk_62 (dk_at dksX1_look_2 17 rfl rfl)
theorem dX1_look_66 : decode cX1_look 66 = .ok (.iload 6, 2) := dk_21 6 (dk_at dksX1_look_2 18 rfl rfl)
theorem dX1_look_68 : decode cX1_look 68 = .ok (.istore 4, 2) := dk_54 4 (dk_at dksX1_look_2 20 rfl rfl)
theorem dX1_look_70 : decode cX1_look 70 = .ok (.iinc 5 1, 3) := dk_132 5 1 (dk_at dksX1_look_3 0 rfl rfl)
theorem dX1_look_73 : decode cX1_look 73 = .ok (.goto (-53), 3) := dk_167 255 203 (dk_at dksX1_look_3 3 rfl rfl)
theorem dX1_look_76 : decode cX1_look 76 = .ok (.iload_n 2, 1) := dk_28 (dk_at dksX1_look_3 6 rfl rfl)
theorem dX1_look_77 : decode cX1_look 77 = .ok (.ifCond .ne 7, 3) := dk_154 0 7 (dk_at dksX1_look_3 7 rfl rfl)
theorem dX1_look_80 : decode cX1_look 80 = .ok (.iload_n 3, 1) := dk_29 (dk_at dksX1_look_3 10 rfl rfl)
theorem dX1_look_81 : decode cX1_look 81 = .ok (.goto 5, 3) := dk_167 0 5 (dk_at dksX1_look_3 11 rfl rfl)
theorem dX1_look_84 : decode cX1_look 84 = .ok (.iload 4, 2) := dk_21 4 (dk_at dksX1_look_3 14 rfl rfl)
theorem dX1_look_86 : decode cX1_look 86 = .ok (.ireturn, 1) := dk_172 (dk_at dksX1_look_3 16 rfl rfl)
abbrev cX1_isTold : ByteArray := prog_1_method_33_code
def yX1_isTold : MethodName := ⟨RX1, "isTold", "(I)Z"⟩
def dkwX1_isTold_1 : List UInt8 := [132, 2, 1, 167, 255, 233, 3, 172]
abbrev dktX1_isTold_1 : List UInt8 := dkwX1_isTold_1 ++ []
def dkwX1_isTold_0 : List UInt8 := [3, 61, 28, 42, 180, 0, 159, 162, 0, 21, 42, 180, 0, 58, 28, 46, 27, 160, 0, 5, 4, 172]
abbrev dktX1_isTold_0 : List UInt8 := dkwX1_isTold_0 ++ dktX1_isTold_1
theorem dksX1_isTold_0 : cX1_isTold.data.toList.drop 0 = dktX1_isTold_0 := by decide +kernel
theorem dksX1_isTold_1 : cX1_isTold.data.toList.drop 22 = dktX1_isTold_1 := dk_seg dksX1_isTold_0 22 rfl rfl
theorem dX1_isTold_0 : decode cX1_isTold 0 = .ok (.iconst 0, 1) := dk_3 (dk_at dksX1_isTold_0 0 rfl rfl)
theorem dX1_isTold_1 : decode cX1_isTold 1 = .ok (.istore_n 2, 1) := dk_61 (dk_at dksX1_isTold_0 1 rfl rfl)
theorem dX1_isTold_2 : decode cX1_isTold 2 = .ok (.iload_n 2, 1) := dk_28 (dk_at dksX1_isTold_0 2 rfl rfl)
theorem dX1_isTold_3 : decode cX1_isTold 3 = .ok (.aload_n 0, 1) := dk_42 (dk_at dksX1_isTold_0 3 rfl rfl)
theorem dX1_isTold_4 : decode cX1_isTold 4 = .ok (.getfield 159, 3) := dk_180 0 159 (dk_at dksX1_isTold_0 4 rfl rfl)
theorem dX1_isTold_7 : decode cX1_isTold 7 = .ok (.if_icmp .ge 21, 3) := dk_162 0 21 (dk_at dksX1_isTold_0 7 rfl rfl)
theorem dX1_isTold_10 : decode cX1_isTold 10 = .ok (.aload_n 0, 1) := dk_42 (dk_at dksX1_isTold_0 10 rfl rfl)
theorem dX1_isTold_11 : decode cX1_isTold 11 = .ok (.getfield 58, 3) := dk_180 0 58 (dk_at dksX1_isTold_0 11 rfl rfl)
theorem dX1_isTold_14 : decode cX1_isTold 14 = .ok (.iload_n 2, 1) := dk_28 (dk_at dksX1_isTold_0 14 rfl rfl)
theorem dX1_isTold_15 : decode cX1_isTold 15 = .ok (.iaload, 1) := dk_46 (dk_at dksX1_isTold_0 15 rfl rfl)
theorem dX1_isTold_16 : decode cX1_isTold 16 = .ok (.iload_n 1, 1) := dk_27 (dk_at dksX1_isTold_0 16 rfl rfl)
theorem dX1_isTold_17 : decode cX1_isTold 17 = .ok (.if_icmp .ne 5, 3) := dk_160 0 5 (dk_at dksX1_isTold_0 17 rfl rfl)
theorem dX1_isTold_20 : decode cX1_isTold 20 = .ok (.iconst 1, 1) := dk_4 (dk_at dksX1_isTold_0 20 rfl rfl)
theorem dX1_isTold_21 : decode cX1_isTold 21 = .ok (.ireturn, 1) := dk_172 (dk_at dksX1_isTold_0 21 rfl rfl)
theorem dX1_isTold_22 : decode cX1_isTold 22 = .ok (.iinc 2 1, 3) := dk_132 2 1 (dk_at dksX1_isTold_1 0 rfl rfl)
theorem dX1_isTold_25 : decode cX1_isTold 25 = .ok (.goto (-23), 3) := dk_167 255 233 (dk_at dksX1_isTold_1 3 rfl rfl)
theorem dX1_isTold_28 : decode cX1_isTold 28 = .ok (.iconst 0, 1) := dk_3 (dk_at dksX1_isTold_1 6 rfl rfl)
theorem dX1_isTold_29 : decode cX1_isTold 29 = .ok (.ireturn, 1) := dk_172 (dk_at dksX1_isTold_1 7 rfl rfl)
abbrev cX1_worstAt : ByteArray := prog_1_method_34_code
def yX1_worstAt : MethodName := ⟨RX1, "worstAt", "(II)I"⟩
def dkwX1_worstAt_3 : List UInt8 := [184, 1, 77, 62, 132, 4, 1, 167, 255, 207, 29, 172]
abbrev dktX1_worstAt_3 : List UInt8 := dkwX1_worstAt_3 ++ []
def dkwX1_worstAt_2 : List UInt8 := [112, 182, 1, 89, 153, 0, 24, 29, 42, 180, 0, 67, 42, 180, 0, 64, 28, 46, 92, 46, 4, 96, 91, 79]
abbrev dktX1_worstAt_2 : List UInt8 := dkwX1_worstAt_2 ++ dktX1_worstAt_3
def dkwX1_worstAt_1 : List UInt8 := [167, 255, 237, 3, 54, 4, 21, 4, 16, 100, 162, 0, 48, 42, 27, 21, 4, 16, 10, 108, 21, 4, 16, 10]
abbrev dktX1_worstAt_1 : List UInt8 := dkwX1_worstAt_1 ++ dktX1_worstAt_2
def dkwX1_worstAt_0 : List UInt8 := [3, 62, 3, 54, 4, 21, 4, 17, 3, 231, 163, 0, 17, 42, 180, 0, 67, 21, 4, 3, 79, 132, 4, 1]
abbrev dktX1_worstAt_0 : List UInt8 := dkwX1_worstAt_0 ++ dktX1_worstAt_1
theorem dksX1_worstAt_0 : cX1_worstAt.data.toList.drop 0 = dktX1_worstAt_0 := by decide +kernel
theorem dksX1_worstAt_1 : cX1_worstAt.data.toList.drop 24 = dktX1_worstAt_1 := dk_seg dksX1_worstAt_0 24 rfl rfl
theorem dksX1_worstAt_2 : cX1_worstAt.data.toList.drop 48 = dktX1_worstAt_2 := dk_seg dksX1_worstAt_1 24 rfl rfl
theorem dksX1_worstAt_3 : cX1_worstAt.data.toList.drop 72 = dktX1_worstAt_3 := dk_seg dksX1_worstAt_2 24 rfl rfl
theorem dX1_worstAt_0 : decode cX1_worstAt 0 = .ok (.iconst 0, 1) := dk_3 (dk_at dksX1_worstAt_0 0 rfl rfl)
theorem dX1_worstAt_1 : decode cX1_worstAt 1 = .ok (.istore_n 3, 1) := dk_62 (dk_at dksX1_worstAt_0 1 rfl rfl)
theorem dX1_worstAt_2 : decode cX1_worstAt 2 = .ok (.iconst 0, 1) := dk_3 (dk_at dksX1_worstAt_0 2 rfl rfl)
theorem dX1_worstAt_3 : decode cX1_worstAt 3 = .ok (.istore 4, 2) := dk_54 4 (dk_at dksX1_worstAt_0 3 rfl rfl)
theorem dX1_worstAt_5 : decode cX1_worstAt 5 = .ok (.iload 4, 2) := dk_21 4 (dk_at dksX1_worstAt_0 5 rfl rfl)
theorem dX1_worstAt_7 : decode cX1_worstAt 7 = .ok (.sipush 999, 3) := dk_17 3 231 (dk_at dksX1_worstAt_0 7 rfl rfl)
theorem dX1_worstAt_10 : decode cX1_worstAt 10 = .ok (.if_icmp .gt 17, 3) := dk_163 0 17 (dk_at dksX1_worstAt_0 10 rfl rfl)
theorem dX1_worstAt_13 : decode cX1_worstAt 13 = .ok (.aload_n 0, 1) := dk_42 (dk_at dksX1_worstAt_0 13 rfl rfl)
theorem dX1_worstAt_14 : decode cX1_worstAt 14 = .ok (.getfield 67, 3) := dk_180 0 67 (dk_at dksX1_worstAt_0 14 rfl rfl)
theorem dX1_worstAt_17 : decode cX1_worstAt 17 = .ok (.iload 4, 2) := dk_21 4 (dk_at dksX1_worstAt_0 17 rfl rfl)
theorem dX1_worstAt_19 : decode cX1_worstAt 19 = .ok (.iconst 0, 1) := dk_3 (dk_at dksX1_worstAt_0 19 rfl rfl)
theorem dX1_worstAt_20 : decode cX1_worstAt 20 = .ok (.iastore, 1) := dk_79 (dk_at dksX1_worstAt_0 20 rfl rfl)
theorem dX1_worstAt_21 : decode cX1_worstAt 21 = .ok (.iinc 4 1, 3) := dk_132 4 1 (dk_at dksX1_worstAt_0 21 rfl rfl)
theorem dX1_worstAt_24 : decode cX1_worstAt 24 = .ok (.goto (-19), 3) := dk_167 255 237 (dk_at dksX1_worstAt_1 0 rfl rfl)
theorem dX1_worstAt_27 : decode cX1_worstAt 27 = .ok (.iconst 0, 1) := dk_3 (dk_at dksX1_worstAt_1 3 rfl rfl)
theorem dX1_worstAt_28 : decode cX1_worstAt 28 = .ok (.istore 4, 2) := dk_54 4 (dk_at dksX1_worstAt_1 4 rfl rfl)
theorem dX1_worstAt_30 : decode cX1_worstAt 30 = .ok (.iload 4, 2) := dk_21 4 (dk_at dksX1_worstAt_1 6 rfl rfl)
theorem dX1_worstAt_32 : decode cX1_worstAt 32 = .ok (.bipush 100, 2) := dk_16 100 (dk_at dksX1_worstAt_1 8 rfl rfl)
theorem dX1_worstAt_34 : decode cX1_worstAt 34 = .ok (.if_icmp .ge 48, 3) := dk_162 0 48 (dk_at dksX1_worstAt_1 10 rfl rfl)
theorem dX1_worstAt_37 : decode cX1_worstAt 37 = .ok (.aload_n 0, 1) := dk_42 (dk_at dksX1_worstAt_1 13 rfl rfl)
theorem dX1_worstAt_38 : decode cX1_worstAt 38 = .ok (.iload_n 1, 1) := dk_27 (dk_at dksX1_worstAt_1 14 rfl rfl)
theorem dX1_worstAt_39 : decode cX1_worstAt 39 = .ok (.iload 4, 2) := dk_21 4 (dk_at dksX1_worstAt_1 15 rfl rfl)
theorem dX1_worstAt_41 : decode cX1_worstAt 41 = .ok (.bipush 10, 2) := dk_16 10 (dk_at dksX1_worstAt_1 17 rfl rfl)
theorem dX1_worstAt_43 : decode cX1_worstAt 43 = .ok (.idiv, 1) := dk_108 (dk_at dksX1_worstAt_1 19 rfl rfl)
theorem dX1_worstAt_44 : decode cX1_worstAt 44 = .ok (.iload 4, 2) := dk_21 4 (dk_at dksX1_worstAt_1 20 rfl rfl)
theorem dX1_worstAt_46 : decode cX1_worstAt 46 = .ok (.bipush 10, 2) := dk_16 10 (dk_at dksX1_worstAt_1 22 rfl rfl)
theorem dX1_worstAt_48 : decode cX1_worstAt 48 = .ok (.irem, 1) := dk_112 (dk_at dksX1_worstAt_2 0 rfl rfl)
theorem dX1_worstAt_49 : decode cX1_worstAt 49 = .ok (.invokevirtual 345, 3) := dk_182 1 89 (dk_at dksX1_worstAt_2 1 rfl rfl)
theorem dX1_worstAt_52 : decode cX1_worstAt 52 = .ok (.ifCond .eq 24, 3) := dk_153 0 24 (dk_at dksX1_worstAt_2 4 rfl rfl)
theorem dX1_worstAt_55 : decode cX1_worstAt 55 = .ok (.iload_n 3, 1) := dk_29 (dk_at dksX1_worstAt_2 7 rfl rfl)
theorem dX1_worstAt_56 : decode cX1_worstAt 56 = .ok (.aload_n 0, 1) := dk_42 (dk_at dksX1_worstAt_2 8 rfl rfl)
theorem dX1_worstAt_57 : decode cX1_worstAt 57 = .ok (.getfield 67, 3) := dk_180 0 67 (dk_at dksX1_worstAt_2 9 rfl rfl)
theorem dX1_worstAt_60 : decode cX1_worstAt 60 = .ok (.aload_n 0, 1) := dk_42 (dk_at dksX1_worstAt_2 12 rfl rfl)
theorem dX1_worstAt_61 : decode cX1_worstAt 61 = .ok (.getfield 64, 3) := dk_180 0 64 (dk_at dksX1_worstAt_2 13 rfl rfl)
theorem dX1_worstAt_64 : decode cX1_worstAt 64 = .ok (.iload_n 2, 1) := dk_28 (dk_at dksX1_worstAt_2 16 rfl rfl)
theorem dX1_worstAt_65 : decode cX1_worstAt 65 = .ok (.iaload, 1) := dk_46 (dk_at dksX1_worstAt_2 17 rfl rfl)
theorem dX1_worstAt_66 : decode cX1_worstAt 66 = .ok (.dup2, 1) := dk_92 (dk_at dksX1_worstAt_2 18 rfl rfl)
theorem dX1_worstAt_67 : decode cX1_worstAt 67 = .ok (.iaload, 1) := dk_46 (dk_at dksX1_worstAt_2 19 rfl rfl)
theorem dX1_worstAt_68 : decode cX1_worstAt 68 = .ok (.iconst 1, 1) := dk_4 (dk_at dksX1_worstAt_2 20 rfl rfl)
theorem dX1_worstAt_69 : decode cX1_worstAt 69 = .ok (.iadd, 1) := dk_96 (dk_at dksX1_worstAt_2 21 rfl rfl)
theorem dX1_worstAt_70 : decode cX1_worstAt 70 = .ok (.dup_x2, 1) := dk_91 (dk_at dksX1_worstAt_2 22 rfl rfl)
theorem dX1_worstAt_71 : decode cX1_worstAt 71 = .ok (.iastore, 1) := dk_79 (dk_at dksX1_worstAt_2 23 rfl rfl)
theorem dX1_worstAt_72 : decode cX1_worstAt 72 = .ok (.invokestatic 333, 3) := dk_184 1 77 (dk_at dksX1_worstAt_3 0 rfl rfl)
theorem dX1_worstAt_75 : decode cX1_worstAt 75 = .ok (.istore_n 3, 1) := dk_62 (dk_at dksX1_worstAt_3 3 rfl rfl)
theorem dX1_worstAt_76 : decode cX1_worstAt 76 = .ok (.iinc 4 1, 3) := dk_132 4 1 (dk_at dksX1_worstAt_3 4 rfl rfl)
theorem dX1_worstAt_79 : decode cX1_worstAt 79 = .ok (.goto (-49), 3) := dk_167 255 207 (dk_at dksX1_worstAt_3 7 rfl rfl)
theorem dX1_worstAt_82 : decode cX1_worstAt 82 = .ok (.iload_n 3, 1) := dk_29 (dk_at dksX1_worstAt_3 10 rfl rfl)
theorem dX1_worstAt_83 : decode cX1_worstAt 83 = .ok (.ireturn, 1) := dk_172 (dk_at dksX1_worstAt_3 11 rfl rfl)
abbrev cX1_run : ByteArray := prog_1_method_37_code
def yX1_run : MethodName := ⟨RX1, "run", "(IIII)J"⟩
def dkwX1_run_8 : List UInt8 := [97, 55, 5, 132, 9, 1, 167, 255, 235, 22, 7, 22, 5, 101, 22, 7, 21, 4, 184, 1, 99, 173]
abbrev dktX1_run_8 : List UInt8 := dkwX1_run_8 ++ []
def dkwX1_run_7 : List UInt8 := [7, 27, 104, 121, 55, 7, 3, 54, 9, 21, 9, 28, 162, 0, 21, 22, 5, 42, 180, 0, 76, 21, 9, 47]
abbrev dktX1_run_7 : List UInt8 := dkwX1_run_7 ++ dktX1_run_8
def dkwX1_run_6 : List UInt8 := [132, 8, 255, 167, 255, 229, 42, 180, 0, 76, 3, 22, 6, 80, 132, 5, 1, 167, 255, 168, 9, 55, 5, 10]
abbrev dktX1_run_6 : List UInt8 := dkwX1_run_6 ++ dktX1_run_7
def dkwX1_run_5 : List UInt8 := [158, 0, 28, 42, 180, 0, 76, 21, 8, 42, 180, 0, 76, 21, 8, 4, 100, 47, 29, 133, 105, 80]
abbrev dktX1_run_5 : List UInt8 := dkwX1_run_5 ++ dktX1_run_6
def dkwX1_run_4 : List UInt8 := [16, 16, 29, 100, 133, 105, 97, 55, 6, 132, 8, 1, 167, 255, 229, 28, 4, 100, 54, 8, 21, 8]
abbrev dktX1_run_4 : List UInt8 := dkwX1_run_4 ++ dktX1_run_5
def dkwX1_run_3 : List UInt8 := [162, 0, 88, 9, 55, 6, 3, 54, 8, 21, 8, 28, 162, 0, 27, 22, 6, 42, 180, 0, 76, 21, 8, 47]
abbrev dktX1_run_3 : List UInt8 := dkwX1_run_3 ++ dktX1_run_4
def dkwX1_run_2 : List UInt8 := [21, 5, 154, 0, 7, 10, 167, 0, 4, 9, 80, 132, 5, 1, 167, 255, 229, 3, 54, 5, 21, 5, 27]
abbrev dktX1_run_2 : List UInt8 := dkwX1_run_2 ++ dktX1_run_3
def dkwX1_run_1 : List UInt8 := [42, 21, 4, 3, 4, 182, 0, 131, 3, 54, 5, 21, 5, 16, 12, 163, 0, 26, 42, 180, 0, 76, 21, 5]
abbrev dktX1_run_1 : List UInt8 := dkwX1_run_1 ++ dktX1_run_2
def dkwX1_run_0 : List UInt8 := [42, 27, 3, 16, 12, 182, 0, 131, 42, 28, 3, 16, 12, 182, 0, 131, 42, 29, 3, 16, 16, 182, 0, 131]
abbrev dktX1_run_0 : List UInt8 := dkwX1_run_0 ++ dktX1_run_1
theorem dksX1_run_0 : cX1_run.data.toList.drop 0 = dktX1_run_0 := by decide +kernel
theorem dksX1_run_1 : cX1_run.data.toList.drop 24 = dktX1_run_1 := dk_seg dksX1_run_0 24 rfl rfl
theorem dksX1_run_2 : cX1_run.data.toList.drop 48 = dktX1_run_2 := dk_seg dksX1_run_1 24 rfl rfl
theorem dksX1_run_3 : cX1_run.data.toList.drop 71 = dktX1_run_3 := dk_seg dksX1_run_2 23 rfl rfl
theorem dksX1_run_4 : cX1_run.data.toList.drop 95 = dktX1_run_4 := dk_seg dksX1_run_3 24 rfl rfl
theorem dksX1_run_5 : cX1_run.data.toList.drop 117 = dktX1_run_5 := dk_seg dksX1_run_4 22 rfl rfl
theorem dksX1_run_6 : cX1_run.data.toList.drop 139 = dktX1_run_6 := dk_seg dksX1_run_5 22 rfl rfl
theorem dksX1_run_7 : cX1_run.data.toList.drop 163 = dktX1_run_7 := dk_seg dksX1_run_6 24 rfl rfl
theorem dksX1_run_8 : cX1_run.data.toList.drop 187 = dktX1_run_8 := dk_seg dksX1_run_7 24 rfl rfl
theorem dX1_run_0 : decode cX1_run 0 = .ok (.aload_n 0, 1) := dk_42 (dk_at dksX1_run_0 0 rfl rfl)
theorem dX1_run_1 : decode cX1_run 1 = .ok (.iload_n 1, 1) := dk_27 (dk_at dksX1_run_0 1 rfl rfl)
theorem dX1_run_2 : decode cX1_run 2 = .ok (.iconst 0, 1) := dk_3 (dk_at dksX1_run_0 2 rfl rfl)
theorem dX1_run_3 : decode cX1_run 3 = .ok (.bipush 12, 2) := dk_16 12 (dk_at dksX1_run_0 3 rfl rfl)
theorem dX1_run_5 : decode cX1_run 5 = .ok (.invokevirtual 131, 3) := dk_182 0 131 (dk_at dksX1_run_0 5 rfl rfl)
theorem dX1_run_8 : decode cX1_run 8 = .ok (.aload_n 0, 1) := dk_42 (dk_at dksX1_run_0 8 rfl rfl)
theorem dX1_run_9 : decode cX1_run 9 = .ok (.iload_n 2, 1) := dk_28 (dk_at dksX1_run_0 9 rfl rfl)
theorem dX1_run_10 : decode cX1_run 10 = .ok (.iconst 0, 1) := dk_3 (dk_at dksX1_run_0 10 rfl rfl)
theorem dX1_run_11 : decode cX1_run 11 = .ok (.bipush 12, 2) := dk_16 12 (dk_at dksX1_run_0 11 rfl rfl)
theorem dX1_run_13 : decode cX1_run 13 = .ok (.invokevirtual 131, 3) := dk_182 0 131 (dk_at dksX1_run_0 13 rfl rfl)
theorem dX1_run_16 : decode cX1_run 16 = .ok (.aload_n 0, 1) := dk_42 (dk_at dksX1_run_0 16 rfl rfl)
theorem dX1_run_17 : decode cX1_run 17 = .ok (.iload_n 3, 1) := dk_29 (dk_at dksX1_run_0 17 rfl rfl)
theorem dX1_run_18 : decode cX1_run 18 = .ok (.iconst 0, 1) := dk_3 (dk_at dksX1_run_0 18 rfl rfl)
theorem dX1_run_19 : decode cX1_run 19 = .ok (.bipush 16, 2) := dk_16 16 (dk_at dksX1_run_0 19 rfl rfl)
theorem dX1_run_21 : decode cX1_run 21 = .ok (.invokevirtual 131, 3) := dk_182 0 131 (dk_at dksX1_run_0 21 rfl rfl)
theorem dX1_run_24 : decode cX1_run 24 = .ok (.aload_n 0, 1) := dk_42 (dk_at dksX1_run_1 0 rfl rfl)
theorem dX1_run_25 : decode cX1_run 25 = .ok (.iload 4, 2) := dk_21 4 (dk_at dksX1_run_1 1 rfl rfl)
theorem dX1_run_27 : decode cX1_run 27 = .ok (.iconst 0, 1) := dk_3 (dk_at dksX1_run_1 3 rfl rfl)
theorem dX1_run_28 : decode cX1_run 28 = .ok (.iconst 1, 1) := dk_4 (dk_at dksX1_run_1 4 rfl rfl)
theorem dX1_run_29 : decode cX1_run 29 = .ok (.invokevirtual 131, 3) := dk_182 0 131 (dk_at dksX1_run_1 5 rfl rfl)
theorem dX1_run_32 : decode cX1_run 32 = .ok (.iconst 0, 1) := dk_3 (dk_at dksX1_run_1 8 rfl rfl)
theorem dX1_run_33 : decode cX1_run 33 = .ok (.istore 5, 2) := dk_54 5 (dk_at dksX1_run_1 9 rfl rfl)
theorem dX1_run_35 : decode cX1_run 35 = .ok (.iload 5, 2) := dk_21 5 (dk_at dksX1_run_1 11 rfl rfl)
theorem dX1_run_37 : decode cX1_run 37 = .ok (.bipush 12, 2) := dk_16 12 (dk_at dksX1_run_1 13 rfl rfl)
theorem dX1_run_39 : decode cX1_run 39 = .ok (.if_icmp .gt 26, 3) := dk_163 0 26 (dk_at dksX1_run_1 15 rfl rfl)
theorem dX1_run_42 : decode cX1_run 42 = .ok (.aload_n 0, 1) := dk_42 (dk_at dksX1_run_1 18 rfl rfl)
theorem dX1_run_43 : decode cX1_run 43 = .ok (.getfield 76, 3) := dk_180 0 76 (dk_at dksX1_run_1 19 rfl rfl)
theorem dX1_run_46 : decode cX1_run 46 = .ok (.iload 5, 2) := dk_21 5 (dk_at dksX1_run_1 22 rfl rfl)
theorem dX1_run_48 : decode cX1_run 48 = .ok (.iload 5, 2) := dk_21 5 (dk_at dksX1_run_2 0 rfl rfl)
theorem dX1_run_50 : decode cX1_run 50 = .ok (.ifCond .ne 7, 3) := dk_154 0 7 (dk_at dksX1_run_2 2 rfl rfl)
theorem dX1_run_53 : decode cX1_run 53 = .ok (.lconst 1, 1) := dk_10 (dk_at dksX1_run_2 5 rfl rfl)
theorem dX1_run_54 : decode cX1_run 54 = .ok (.goto 4, 3) := dk_167 0 4 (dk_at dksX1_run_2 6 rfl rfl)
theorem dX1_run_57 : decode cX1_run 57 = .ok (.lconst 0, 1) := dk_9 (dk_at dksX1_run_2 9 rfl rfl)
theorem dX1_run_58 : decode cX1_run 58 = .ok (.lastore, 1) := dk_80 (dk_at dksX1_run_2 10 rfl rfl)
theorem dX1_run_59 : decode cX1_run 59 = .ok (.iinc 5 1, 3) := dk_132 5 1 (dk_at dksX1_run_2 11 rfl rfl)
theorem dX1_run_62 : decode cX1_run 62 = .ok (.goto (-27), 3) := dk_167 255 229 (dk_at dksX1_run_2 14 rfl rfl)
theorem dX1_run_65 : decode cX1_run 65 = .ok (.iconst 0, 1) := dk_3 (dk_at dksX1_run_2 17 rfl rfl)
theorem dX1_run_66 : decode cX1_run 66 = .ok (.istore 5, 2) := dk_54 5 (dk_at dksX1_run_2 18 rfl rfl)
theorem dX1_run_68 : decode cX1_run 68 = .ok (.iload 5, 2) := dk_21 5 (dk_at dksX1_run_2 20 rfl rfl)
theorem dX1_run_70 : decode cX1_run 70 = .ok (.iload_n 1, 1) := dk_27 (dk_at dksX1_run_2 22 rfl rfl)
theorem dX1_run_71 : decode cX1_run 71 = .ok (.if_icmp .ge 88, 3) := dk_162 0 88 (dk_at dksX1_run_3 0 rfl rfl)
theorem dX1_run_74 : decode cX1_run 74 = .ok (.lconst 0, 1) := dk_9 (dk_at dksX1_run_3 3 rfl rfl)
theorem dX1_run_75 : decode cX1_run 75 = .ok (.lstore 6, 2) := dk_55 6 (dk_at dksX1_run_3 4 rfl rfl)
theorem dX1_run_77 : decode cX1_run 77 = .ok (.iconst 0, 1) := dk_3 (dk_at dksX1_run_3 6 rfl rfl)
theorem dX1_run_78 : decode cX1_run 78 = .ok (.istore 8, 2) := dk_54 8 (dk_at dksX1_run_3 7 rfl rfl)
theorem dX1_run_80 : decode cX1_run 80 = .ok (.iload 8, 2) := dk_21 8 (dk_at dksX1_run_3 9 rfl rfl)
theorem dX1_run_82 : decode cX1_run 82 = .ok (.iload_n 2, 1) := dk_28 (dk_at dksX1_run_3 11 rfl rfl)
theorem dX1_run_83 : decode cX1_run 83 = .ok (.if_icmp .ge 27, 3) := dk_162 0 27 (dk_at dksX1_run_3 12 rfl rfl)
theorem dX1_run_86 : decode cX1_run 86 = .ok (.lload 6, 2) := dk_22 6 (dk_at dksX1_run_3 15 rfl rfl)
theorem dX1_run_88 : decode cX1_run 88 = .ok (.aload_n 0, 1) := dk_42 (dk_at dksX1_run_3 17 rfl rfl)
theorem dX1_run_89 : decode cX1_run 89 = .ok (.getfield 76, 3) := dk_180 0 76 (dk_at dksX1_run_3 18 rfl rfl)
theorem dX1_run_92 : decode cX1_run 92 = .ok (.iload 8, 2) := dk_21 8 (dk_at dksX1_run_3 21 rfl rfl)
theorem dX1_run_94 : decode cX1_run 94 = .ok (.laload, 1) := dk_47 (dk_at dksX1_run_3 23 rfl rfl)
theorem dX1_run_95 : decode cX1_run 95 = .ok (.bipush 16, 2) := dk_16 16 (dk_at dksX1_run_4 0 rfl rfl)
theorem dX1_run_97 : decode cX1_run 97 = .ok (.iload_n 3, 1) := dk_29 (dk_at dksX1_run_4 2 rfl rfl)
theorem dX1_run_98 : decode cX1_run 98 = .ok (.isub, 1) := dk_100 (dk_at dksX1_run_4 3 rfl rfl)
theorem dX1_run_99 : decode cX1_run 99 = .ok (.i2l, 1) := dk_133 (dk_at dksX1_run_4 4 rfl rfl)
theorem dX1_run_100 : decode cX1_run 100 = .ok (.lmul, 1) := dk_105 (dk_at dksX1_run_4 5 rfl rfl)
theorem dX1_run_101 : decode cX1_run 101 = .ok (.ladd, 1) := dk_97 (dk_at dksX1_run_4 6 rfl rfl)
theorem dX1_run_102 : decode cX1_run 102 = .ok (.lstore 6, 2) := dk_55 6 (dk_at dksX1_run_4 7 rfl rfl)
theorem dX1_run_104 : decode cX1_run 104 = .ok (.iinc 8 1, 3) := dk_132 8 1 (dk_at dksX1_run_4 9 rfl rfl)
theorem dX1_run_107 : decode cX1_run 107 = .ok (.goto (-27), 3) := dk_167 255 229 (dk_at dksX1_run_4 12 rfl rfl)
theorem dX1_run_110 : decode cX1_run 110 = .ok (.iload_n 2, 1) := dk_28 (dk_at dksX1_run_4 15 rfl rfl)
theorem dX1_run_111 : decode cX1_run 111 = .ok (.iconst 1, 1) := dk_4 (dk_at dksX1_run_4 16 rfl rfl)
theorem dX1_run_112 : decode cX1_run 112 = .ok (.isub, 1) := dk_100 (dk_at dksX1_run_4 17 rfl rfl)
theorem dX1_run_113 : decode cX1_run 113 = .ok (.istore 8, 2) := dk_54 8 (dk_at dksX1_run_4 18 rfl rfl)
theorem dX1_run_115 : decode cX1_run 115 = .ok (.iload 8, 2) := dk_21 8 (dk_at dksX1_run_4 20 rfl rfl)
theorem dX1_run_117 : decode cX1_run 117 = .ok (.ifCond .le 28, 3) := dk_158 0 28 (dk_at dksX1_run_5 0 rfl rfl)
theorem dX1_run_120 : decode cX1_run 120 = .ok (.aload_n 0, 1) := dk_42 (dk_at dksX1_run_5 3 rfl rfl)
theorem dX1_run_121 : decode cX1_run 121 = .ok (.getfield 76, 3) := dk_180 0 76 (dk_at dksX1_run_5 4 rfl rfl)
theorem dX1_run_124 : decode cX1_run 124 = .ok (.iload 8, 2) := dk_21 8 (dk_at dksX1_run_5 7 rfl rfl)
theorem dX1_run_126 : decode cX1_run 126 = .ok (.aload_n 0, 1) := dk_42 (dk_at dksX1_run_5 9 rfl rfl)
theorem dX1_run_127 : decode cX1_run 127 = .ok (.getfield 76, 3) := dk_180 0 76 (dk_at dksX1_run_5 10 rfl rfl)
theorem dX1_run_130 : decode cX1_run 130 = .ok (.iload 8, 2) := dk_21 8 (dk_at dksX1_run_5 13 rfl rfl)
theorem dX1_run_132 : decode cX1_run 132 = .ok (.iconst 1, 1) := dk_4 (dk_at dksX1_run_5 15 rfl rfl)
theorem dX1_run_133 : decode cX1_run 133 = .ok (.isub, 1) := dk_100 (dk_at dksX1_run_5 16 rfl rfl)
theorem dX1_run_134 : decode cX1_run 134 = .ok (.laload, 1) := dk_47 (dk_at dksX1_run_5 17 rfl rfl)
theorem dX1_run_135 : decode cX1_run 135 = .ok (.iload_n 3, 1) := dk_29 (dk_at dksX1_run_5 18 rfl rfl)
theorem dX1_run_136 : decode cX1_run 136 = .ok (.i2l, 1) := dk_133 (dk_at dksX1_run_5 19 rfl rfl)
theorem dX1_run_137 : decode cX1_run 137 = .ok (.lmul, 1) := dk_105 (dk_at dksX1_run_5 20 rfl rfl)
theorem dX1_run_138 : decode cX1_run 138 = .ok (.lastore, 1) := dk_80 (dk_at dksX1_run_5 21 rfl rfl)
theorem dX1_run_139 : decode cX1_run 139 = .ok (.iinc 8 (-1), 3) := dk_132 8 255 (dk_at dksX1_run_6 0 rfl rfl)
theorem dX1_run_142 : decode cX1_run 142 = .ok (.goto (-27), 3) := dk_167 255 229 (dk_at dksX1_run_6 3 rfl rfl)
theorem dX1_run_145 : decode cX1_run 145 = .ok (.aload_n 0, 1) := dk_42 (dk_at dksX1_run_6 6 rfl rfl)
theorem dX1_run_146 : decode cX1_run 146 = .ok (.getfield 76, 3) := dk_180 0 76 (dk_at dksX1_run_6 7 rfl rfl)
theorem dX1_run_149 : decode cX1_run 149 = .ok (.iconst 0, 1) := dk_3 (dk_at dksX1_run_6 10 rfl rfl)
theorem dX1_run_150 : decode cX1_run 150 = .ok (.lload 6, 2) := dk_22 6 (dk_at dksX1_run_6 11 rfl rfl)
theorem dX1_run_152 : decode cX1_run 152 = .ok (.lastore, 1) := dk_80 (dk_at dksX1_run_6 13 rfl rfl)
theorem dX1_run_153 : decode cX1_run 153 = .ok (.iinc 5 1, 3) := dk_132 5 1 (dk_at dksX1_run_6 14 rfl rfl)
theorem dX1_run_156 : decode cX1_run 156 = .ok (.goto (-88), 3) := dk_167 255 168 (dk_at dksX1_run_6 17 rfl rfl)
theorem dX1_run_159 : decode cX1_run 159 = .ok (.lconst 0, 1) := dk_9 (dk_at dksX1_run_6 20 rfl rfl)
theorem dX1_run_160 : decode cX1_run 160 = .ok (.lstore 5, 2) := dk_55 5 (dk_at dksX1_run_6 21 rfl rfl)
theorem dX1_run_162 : decode cX1_run 162 = .ok (.lconst 1, 1) := dk_10 (dk_at dksX1_run_6 23 rfl rfl)
theorem dX1_run_163 : decode cX1_run 163 = .ok (.iconst 4, 1) := dk_7 (dk_at dksX1_run_7 0 rfl rfl)
theorem dX1_run_164 : decode cX1_run 164 = .ok (.iload_n 1, 1) := dk_27 (dk_at dksX1_run_7 1 rfl rfl)
theorem dX1_run_165 : decode cX1_run 165 = .ok (.imul, 1) := dk_104 (dk_at dksX1_run_7 2 rfl rfl)
theorem dX1_run_166 : decode cX1_run 166 = .ok (.lshl, 1) := dk_121 (dk_at dksX1_run_7 3 rfl rfl)
theorem dX1_run_167 : decode cX1_run 167 = .ok (.lstore 7, 2) := dk_55 7 (dk_at dksX1_run_7 4 rfl rfl)
theorem dX1_run_169 : decode cX1_run 169 = .ok (.iconst 0, 1) := dk_3 (dk_at dksX1_run_7 6 rfl rfl)
theorem dX1_run_170 : decode cX1_run 170 = .ok (.istore 9, 2) := dk_54 9 (dk_at dksX1_run_7 7 rfl rfl)
theorem dX1_run_172 : decode cX1_run 172 = .ok (.iload 9, 2) := dk_21 9 (dk_at dksX1_run_7 9 rfl rfl)
theorem dX1_run_174 : decode cX1_run 174 = .ok (.iload_n 2, 1) := dk_28 (dk_at dksX1_run_7 11 rfl rfl)
theorem dX1_run_175 : decode cX1_run 175 = .ok (.if_icmp .ge 21, 3) := dk_162 0 21 (dk_at dksX1_run_7 12 rfl rfl)
theorem dX1_run_178 : decode cX1_run 178 = .ok (.lload 5, 2) := dk_22 5 (dk_at dksX1_run_7 15 rfl rfl)
theorem dX1_run_180 : decode cX1_run 180 = .ok (.aload_n 0, 1) := dk_42 (dk_at dksX1_run_7 17 rfl rfl)
theorem dX1_run_181 : decode cX1_run 181 = .ok (.getfield 76, 3) := dk_180 0 76 (dk_at dksX1_run_7 18 rfl rfl)
theorem dX1_run_184 : decode cX1_run 184 = .ok (.iload 9, 2) := dk_21 9 (dk_at dksX1_run_7 21 rfl rfl)
theorem dX1_run_186 : decode cX1_run 186 = .ok (.laload, 1) := dk_47 (dk_at dksX1_run_7 23 rfl rfl)
theorem dX1_run_187 : decode cX1_run 187 = .ok (.ladd, 1) := dk_97 (dk_at dksX1_run_8 0 rfl rfl)
theorem dX1_run_188 : decode cX1_run 188 = .ok (.lstore 5, 2) := dk_55 5 (dk_at dksX1_run_8 1 rfl rfl)
theorem dX1_run_190 : decode cX1_run 190 = .ok (.iinc 9 1, 3) := dk_132 9 1 (dk_at dksX1_run_8 3 rfl rfl)
theorem dX1_run_193 : decode cX1_run 193 = .ok (.goto (-21), 3) := dk_167 255 235 (dk_at dksX1_run_8 6 rfl rfl)
theorem dX1_run_196 : decode cX1_run 196 = .ok (.lload 7, 2) := dk_22 7 (dk_at dksX1_run_8 9 rfl rfl)
theorem dX1_run_198 : decode cX1_run 198 = .ok (.lload 5, 2) := dk_22 5 (dk_at dksX1_run_8 11 rfl rfl)
theorem dX1_run_200 : decode cX1_run 200 = .ok (.lsub, 1) := dk_101 (dk_at dksX1_run_8 13 rfl rfl)
theorem dX1_run_201 : decode cX1_run 201 = .ok (.lload 7, 2) := dk_22 7 (dk_at dksX1_run_8 14 rfl rfl)
theorem dX1_run_203 : decode cX1_run 203 = .ok (.iload 4, 2) := dk_21 4 (dk_at dksX1_run_8 16 rfl rfl)
theorem dX1_run_205 : decode cX1_run 205 = .ok (.invokestatic 355, 3) := dk_184 1 99 (dk_at dksX1_run_8 18 rfl rfl)
theorem dX1_run_208 : decode cX1_run 208 = .ok (.lreturn, 1) := dk_173 (dk_at dksX1_run_8 21 rfl rfl)
abbrev cX1_part : ByteArray := prog_1_method_36_code
def yX1_part : MethodName := ⟨RX1, "part", "(JJI)J"⟩
def dkwX1_part_1 : List UInt8 := [22, 9, 55, 7, 167, 255, 234, 21, 4, 154, 0, 10, 30, 22, 5, 109, 167, 0, 7, 32, 22, 5, 109, 173]
abbrev dktX1_part_1 : List UInt8 := dkwX1_part_1 ++ []
def dkwX1_part_0 : List UInt8 := [32, 55, 5, 30, 55, 7, 22, 7, 9, 148, 153, 0, 21, 22, 5, 22, 7, 113, 55, 9, 22, 7, 55, 5]
abbrev dktX1_part_0 : List UInt8 := dkwX1_part_0 ++ dktX1_part_1
theorem dksX1_part_0 : cX1_part.data.toList.drop 0 = dktX1_part_0 := by decide +kernel
theorem dksX1_part_1 : cX1_part.data.toList.drop 24 = dktX1_part_1 := dk_seg dksX1_part_0 24 rfl rfl
theorem dX1_part_0 : decode cX1_part 0 = .ok (.lload_n 2, 1) := dk_32 (dk_at dksX1_part_0 0 rfl rfl)
theorem dX1_part_1 : decode cX1_part 1 = .ok (.lstore 5, 2) := dk_55 5 (dk_at dksX1_part_0 1 rfl rfl)
theorem dX1_part_3 : decode cX1_part 3 = .ok (.lload_n 0, 1) := dk_30 (dk_at dksX1_part_0 3 rfl rfl)
theorem dX1_part_4 : decode cX1_part 4 = .ok (.lstore 7, 2) := dk_55 7 (dk_at dksX1_part_0 4 rfl rfl)
theorem dX1_part_6 : decode cX1_part 6 = .ok (.lload 7, 2) := dk_22 7 (dk_at dksX1_part_0 6 rfl rfl)
theorem dX1_part_8 : decode cX1_part 8 = .ok (.lconst 0, 1) := dk_9 (dk_at dksX1_part_0 8 rfl rfl)
theorem dX1_part_9 : decode cX1_part 9 = .ok (.lcmp, 1) := dk_148 (dk_at dksX1_part_0 9 rfl rfl)
theorem dX1_part_10 : decode cX1_part 10 = .ok (.ifCond .eq 21, 3) := dk_153 0 21 (dk_at dksX1_part_0 10 rfl rfl)
theorem dX1_part_13 : decode cX1_part 13 = .ok (.lload 5, 2) := dk_22 5 (dk_at dksX1_part_0 13 rfl rfl)
theorem dX1_part_15 : decode cX1_part 15 = .ok (.lload 7, 2) := dk_22 7 (dk_at dksX1_part_0 15 rfl rfl)
theorem dX1_part_17 : decode cX1_part 17 = .ok (.lrem, 1) := dk_113 (dk_at dksX1_part_0 17 rfl rfl)
theorem dX1_part_18 : decode cX1_part 18 = .ok (.lstore 9, 2) := dk_55 9 (dk_at dksX1_part_0 18 rfl rfl)
theorem dX1_part_20 : decode cX1_part 20 = .ok (.lload 7, 2) := dk_22 7 (dk_at dksX1_part_0 20 rfl rfl)
theorem dX1_part_22 : decode cX1_part 22 = .ok (.lstore 5, 2) := dk_55 5 (dk_at dksX1_part_0 22 rfl rfl)
theorem dX1_part_24 : decode cX1_part 24 = .ok (.lload 9, 2) := dk_22 9 (dk_at dksX1_part_1 0 rfl rfl)
theorem dX1_part_26 : decode cX1_part 26 = .ok (.lstore 7, 2) := dk_55 7 (dk_at dksX1_part_1 2 rfl rfl)
theorem dX1_part_28 : decode cX1_part 28 = .ok (.goto (-22), 3) := dk_167 255 234 (dk_at dksX1_part_1 4 rfl rfl)
theorem dX1_part_31 : decode cX1_part 31 = .ok (.iload 4, 2) := dk_21 4 (dk_at dksX1_part_1 7 rfl rfl)
theorem dX1_part_33 : decode cX1_part 33 = .ok (.ifCond .ne 10, 3) := dk_154 0 10 (dk_at dksX1_part_1 9 rfl rfl)
theorem dX1_part_36 : decode cX1_part 36 = .ok (.lload_n 0, 1) := dk_30 (dk_at dksX1_part_1 12 rfl rfl)
theorem dX1_part_37 : decode cX1_part 37 = .ok (.lload 5, 2) := dk_22 5 (dk_at dksX1_part_1 13 rfl rfl)
theorem dX1_part_39 : decode cX1_part 39 = .ok (.ldiv, 1) := dk_109 (dk_at dksX1_part_1 15 rfl rfl)
theorem dX1_part_40 : decode cX1_part 40 = .ok (.goto 7, 3) := dk_167 0 7 (dk_at dksX1_part_1 16 rfl rfl)
theorem dX1_part_43 : decode cX1_part 43 = .ok (.lload_n 2, 1) := dk_32 (dk_at dksX1_part_1 19 rfl rfl)
theorem dX1_part_44 : decode cX1_part 44 = .ok (.lload 5, 2) := dk_22 5 (dk_at dksX1_part_1 20 rfl rfl)
theorem dX1_part_46 : decode cX1_part 46 = .ok (.ldiv, 1) := dk_109 (dk_at dksX1_part_1 22 rfl rfl)
theorem dX1_part_47 : decode cX1_part 47 = .ok (.lreturn, 1) := dk_173 (dk_at dksX1_part_1 23 rfl rfl)
abbrev cX1_planes : ByteArray := prog_1_method_39_code
def yX1_planes : MethodName := ⟨RX1, "planes", "(III)I"⟩
def dkwX1_planes_6 : List UInt8 := [154, 0, 8, 21, 4, 167, 0, 15, 29, 4, 160, 0, 8, 21, 5, 167, 0, 5, 21, 6, 172]
abbrev dktX1_planes_6 : List UInt8 := dkwX1_planes_6 ++ []
def dkwX1_planes_5 : List UInt8 := [28, 184, 1, 103, 21, 9, 21, 8, 27, 28, 184, 1, 103, 96, 54, 6, 132, 7, 255, 167, 255, 153, 29]
abbrev dktX1_planes_5 : List UInt8 := dkwX1_planes_5 ++ dktX1_planes_6
def dkwX1_planes_4 : List UInt8 := [164, 0, 6, 167, 0, 37, 132, 4, 1, 16, 10, 21, 8, 104, 21, 9, 96, 54, 5, 21, 8, 21, 9, 27]
abbrev dktX1_planes_4 : List UInt8 := dkwX1_planes_4 ++ dktX1_planes_5
def dkwX1_planes_3 : List UInt8 := [163, 0, 63, 4, 21, 9, 100, 21, 8, 27, 28, 184, 1, 103, 21, 9, 21, 8, 27, 28, 184, 1, 103]
abbrev dktX1_planes_3 : List UInt8 := dkwX1_planes_3 ++ dktX1_planes_4
def dkwX1_planes_2 : List UInt8 := [5, 112, 54, 9, 4, 21, 8, 100, 21, 9, 27, 28, 184, 1, 103, 21, 8, 21, 9, 27, 28, 184, 1, 103]
abbrev dktX1_planes_2 : List UInt8 := dkwX1_planes_2 ++ dktX1_planes_3
def dkwX1_planes_1 : List UInt8 := [54, 4, 2, 54, 5, 3, 54, 6, 6, 54, 7, 21, 7, 155, 0, 104, 21, 7, 5, 108, 54, 8, 21, 7]
abbrev dktX1_planes_1 : List UInt8 := dkwX1_planes_1 ++ dktX1_planes_2
def dkwX1_planes_0 : List UInt8 := [42, 27, 3, 16, 99, 182, 0, 131, 42, 28, 3, 16, 99, 182, 0, 131, 42, 29, 3, 5, 182, 0, 131, 3]
abbrev dktX1_planes_0 : List UInt8 := dkwX1_planes_0 ++ dktX1_planes_1
theorem dksX1_planes_0 : cX1_planes.data.toList.drop 0 = dktX1_planes_0 := by decide +kernel
theorem dksX1_planes_1 : cX1_planes.data.toList.drop 24 = dktX1_planes_1 := dk_seg dksX1_planes_0 24 rfl rfl
theorem dksX1_planes_2 : cX1_planes.data.toList.drop 48 = dktX1_planes_2 := dk_seg dksX1_planes_1 24 rfl rfl
theorem dksX1_planes_3 : cX1_planes.data.toList.drop 72 = dktX1_planes_3 := dk_seg dksX1_planes_2 24 rfl rfl
theorem dksX1_planes_4 : cX1_planes.data.toList.drop 95 = dktX1_planes_4 := dk_seg dksX1_planes_3 23 rfl rfl
theorem dksX1_planes_5 : cX1_planes.data.toList.drop 119 = dktX1_planes_5 := dk_seg dksX1_planes_4 24 rfl rfl
theorem dksX1_planes_6 : cX1_planes.data.toList.drop 142 = dktX1_planes_6 := dk_seg dksX1_planes_5 23 rfl rfl
theorem dX1_planes_0 : decode cX1_planes 0 = .ok (.aload_n 0, 1) := dk_42 (dk_at dksX1_planes_0 0 rfl rfl)
theorem dX1_planes_1 : decode cX1_planes 1 = .ok (.iload_n 1, 1) := dk_27 (dk_at dksX1_planes_0 1 rfl rfl)
theorem dX1_planes_2 : decode cX1_planes 2 = .ok (.iconst 0, 1) := dk_3 (dk_at dksX1_planes_0 2 rfl rfl)
theorem dX1_planes_3 : decode cX1_planes 3 = .ok (.bipush 99, 2) := dk_16 99 (dk_at dksX1_planes_0 3 rfl rfl)
theorem dX1_planes_5 : decode cX1_planes 5 = .ok (.invokevirtual 131, 3) := dk_182 0 131 (dk_at dksX1_planes_0 5 rfl rfl)
theorem dX1_planes_8 : decode cX1_planes 8 = .ok (.aload_n 0, 1) := dk_42 (dk_at dksX1_planes_0 8 rfl rfl)
theorem dX1_planes_9 : decode cX1_planes 9 = .ok (.iload_n 2, 1) := dk_28 (dk_at dksX1_planes_0 9 rfl rfl)
theorem dX1_planes_10 : decode cX1_planes 10 = .ok (.iconst 0, 1) := dk_3 (dk_at dksX1_planes_0 10 rfl rfl)
theorem dX1_planes_11 : decode cX1_planes 11 = .ok (.bipush 99, 2) := dk_16 99 (dk_at dksX1_planes_0 11 rfl rfl)
theorem dX1_planes_13 : decode cX1_planes 13 = .ok (.invokevirtual 131, 3) := dk_182 0 131 (dk_at dksX1_planes_0 13 rfl rfl)
theorem dX1_planes_16 : decode cX1_planes 16 = .ok (.aload_n 0, 1) := dk_42 (dk_at dksX1_planes_0 16 rfl rfl)
theorem dX1_planes_17 : decode cX1_planes 17 = .ok (.iload_n 3, 1) := dk_29 (dk_at dksX1_planes_0 17 rfl rfl)
theorem dX1_planes_18 : decode cX1_planes 18 = .ok (.iconst 0, 1) := dk_3 (dk_at dksX1_planes_0 18 rfl rfl)
theorem dX1_planes_19 : decode cX1_planes 19 = .ok (.iconst 2, 1) := dk_5 (dk_at dksX1_planes_0 19 rfl rfl)
theorem dX1_planes_20 : decode cX1_planes 20 = .ok (.invokevirtual 131, 3) := dk_182 0 131 (dk_at dksX1_planes_0 20 rfl rfl)
theorem dX1_planes_23 : decode cX1_planes 23 = .ok (.iconst 0, 1) := dk_3 (dk_at dksX1_planes_0 23 rfl rfl)
theorem dX1_planes_24 : decode cX1_planes 24 = .ok (.istore 4, 2) := dk_54 4 (dk_at dksX1_planes_1 0 rfl rfl)
theorem dX1_planes_26 : decode cX1_planes 26 = .ok (.iconst (-1), 1) := dk_2 (dk_at dksX1_planes_1 2 rfl rfl)
theorem dX1_planes_27 : decode cX1_planes 27 = .ok (.istore 5, 2) := dk_54 5 (dk_at dksX1_planes_1 3 rfl rfl)
theorem dX1_planes_29 : decode cX1_planes 29 = .ok (.iconst 0, 1) := dk_3 (dk_at dksX1_planes_1 5 rfl rfl)
theorem dX1_planes_30 : decode cX1_planes 30 = .ok (.istore 6, 2) := dk_54 6 (dk_at dksX1_planes_1 6 rfl rfl)
theorem dX1_planes_32 : decode cX1_planes 32 = .ok (.iconst 3, 1) := dk_6 (dk_at dksX1_planes_1 8 rfl rfl)
theorem dX1_planes_33 : decode cX1_planes 33 = .ok (.istore 7, 2) := dk_54 7 (dk_at dksX1_planes_1 9 rfl rfl)
theorem dX1_planes_35 : decode cX1_planes 35 = .ok (.iload 7, 2) := dk_21 7 (dk_at dksX1_planes_1 11 rfl rfl)
theorem dX1_planes_37 : decode cX1_planes 37 = .ok (.ifCond .lt 104, 3) := dk_155 0 104 (dk_at dksX1_planes_1 13 rfl rfl)
theorem dX1_planes_40 : decode cX1_planes 40 = .ok (.iload 7, 2) := dk_21 7 (dk_at dksX1_planes_1 16 rfl rfl)
theorem dX1_planes_42 : decode cX1_planes 42 = .ok (.iconst 2, 1) := dk_5 (dk_at dksX1_planes_1 18 rfl rfl)
theorem dX1_planes_43 : decode cX1_planes 43 = .ok (.idiv, 1) := dk_108 (dk_at dksX1_planes_1 19 rfl rfl)
theorem dX1_planes_44 : decode cX1_planes 44 = .ok (.istore 8, 2) := dk_54 8 (dk_at dksX1_planes_1 20 rfl rfl)
theorem dX1_planes_46 : decode cX1_planes 46 = .ok (.iload 7, 2) := dk_21 7 (dk_at dksX1_planes_1 22 rfl rfl)
theorem dX1_planes_48 : decode cX1_planes 48 = .ok (.iconst 2, 1) := dk_5 (dk_at dksX1_planes_2 0 rfl rfl)
theorem dX1_planes_49 : decode cX1_planes 49 = .ok (.irem, 1) := dk_112 (dk_at dksX1_planes_2 1 rfl rfl)
theorem dX1_planes_50 : decode cX1_planes 50 = .ok (.istore 9, 2) := dk_54 9 (dk_at dksX1_planes_2 2 rfl rfl)
theorem dX1_planes_52 : decode cX1_planes 52 = .ok (.iconst 1, 1) := dk_4 (dk_at dksX1_planes_2 4 rfl rfl)
theorem dX1_planes_53 : decode cX1_planes 53 = .ok (.iload 8, 2) := dk_21 8 (dk_at dksX1_planes_2 5 rfl rfl)
theorem dX1_planes_55 : decode cX1_planes 55 = .ok (.isub, 1) := dk_100 (dk_at dksX1_planes_2 7 rfl rfl)
theorem dX1_planes_56 : decode cX1_planes 56 = .ok (.iload 9, 2) := dk_21 9 (dk_at dksX1_planes_2 8 rfl rfl)
theorem dX1_planes_58 : decode cX1_planes 58 = .ok (.iload_n 1, 1) := dk_27 (dk_at dksX1_planes_2 10 rfl rfl)
theorem dX1_planes_59 : decode cX1_planes 59 = .ok (.iload_n 2, 1) := dk_28 (dk_at dksX1_planes_2 11 rfl rfl)
theorem dX1_planes_60 : decode cX1_planes 60 = .ok (.invokestatic 359, 3) := dk_184 1 103 (dk_at dksX1_planes_2 12 rfl rfl)
theorem dX1_planes_63 : decode cX1_planes 63 = .ok (.iload 8, 2) := dk_21 8 (dk_at dksX1_planes_2 15 rfl rfl)
theorem dX1_planes_65 : decode cX1_planes 65 = .ok (.iload 9, 2) := dk_21 9 (dk_at dksX1_planes_2 17 rfl rfl)
theorem dX1_planes_67 : decode cX1_planes 67 = .ok (.iload_n 1, 1) := dk_27 (dk_at dksX1_planes_2 19 rfl rfl)
theorem dX1_planes_68 : decode cX1_planes 68 = .ok (.iload_n 2, 1) := dk_28 (dk_at dksX1_planes_2 20 rfl rfl)
theorem dX1_planes_69 : decode cX1_planes 69 = .ok (.invokestatic 359, 3) := dk_184 1 103 (dk_at dksX1_planes_2 21 rfl rfl)
theorem dX1_planes_72 : decode cX1_planes 72 = .ok (.if_icmp .gt 63, 3) := dk_163 0 63 (dk_at dksX1_planes_3 0 rfl rfl)
theorem dX1_planes_75 : decode cX1_planes 75 = .ok (.iconst 1, 1) := dk_4 (dk_at dksX1_planes_3 3 rfl rfl)
theorem dX1_planes_76 : decode cX1_planes 76 = .ok (.iload 9, 2) := dk_21 9 (dk_at dksX1_planes_3 4 rfl rfl)
theorem dX1_planes_78 : decode cX1_planes 78 = .ok (.isub, 1) := dk_100 (dk_at dksX1_planes_3 6 rfl rfl)
theorem dX1_planes_79 : decode cX1_planes 79 = .ok (.iload 8, 2) := dk_21 8 (dk_at dksX1_planes_3 7 rfl rfl)
theorem dX1_planes_81 : decode cX1_planes 81 = .ok (.iload_n 1, 1) := dk_27 (dk_at dksX1_planes_3 9 rfl rfl)
theorem dX1_planes_82 : decode cX1_planes 82 = .ok (.iload_n 2, 1) := dk_28 (dk_at dksX1_planes_3 10 rfl rfl)
theorem dX1_planes_83 : decode cX1_planes 83 = .ok (.invokestatic 359, 3) := dk_184 1 103 (dk_at dksX1_planes_3 11 rfl rfl)
theorem dX1_planes_86 : decode cX1_planes 86 = .ok (.iload 9, 2) := dk_21 9 (dk_at dksX1_planes_3 14 rfl rfl)
theorem dX1_planes_88 : decode cX1_planes 88 = .ok (.iload 8, 2) := dk_21 8 (dk_at dksX1_planes_3 16 rfl rfl)
theorem dX1_planes_90 : decode cX1_planes 90 = .ok (.iload_n 1, 1) := dk_27 (dk_at dksX1_planes_3 18 rfl rfl)
theorem dX1_planes_91 : decode cX1_planes 91 = .ok (.iload_n 2, 1) := dk_28 (dk_at dksX1_planes_3 19 rfl rfl)
theorem dX1_planes_92 : decode cX1_planes 92 = .ok (.invokestatic 359, 3) := dk_184 1 103 (dk_at dksX1_planes_3 20 rfl rfl)
theorem dX1_planes_95 : decode cX1_planes 95 = .ok (.if_icmp .le 6, 3) := dk_164 0 6 (dk_at dksX1_planes_4 0 rfl rfl)
theorem dX1_planes_98 : decode cX1_planes 98 = .ok (.goto 37, 3) := dk_167 0 37 (dk_at dksX1_planes_4 3 rfl rfl)
theorem dX1_planes_101 : decode cX1_planes 101 = .ok (.iinc 4 1, 3) := dk_132 4 1 (dk_at dksX1_planes_4 6 rfl rfl)
theorem dX1_planes_104 : decode cX1_planes 104 = .ok (.bipush 10, 2) := dk_16 10 (dk_at dksX1_planes_4 9 rfl rfl)
theorem dX1_planes_106 : decode cX1_planes 106 = .ok (.iload 8, 2) := dk_21 8 (dk_at dksX1_planes_4 11 rfl rfl)
theorem dX1_planes_108 : decode cX1_planes 108 = .ok (.imul, 1) := dk_104 (dk_at dksX1_planes_4 13 rfl rfl)
theorem dX1_planes_109 : decode cX1_planes 109 = .ok (.iload 9, 2) := dk_21 9 (dk_at dksX1_planes_4 14 rfl rfl)
theorem dX1_planes_111 : decode cX1_planes 111 = .ok (.iadd, 1) := dk_96 (dk_at dksX1_planes_4 16 rfl rfl)
theorem dX1_planes_112 : decode cX1_planes 112 = .ok (.istore 5, 2) := dk_54 5 (dk_at dksX1_planes_4 17 rfl rfl)
theorem dX1_planes_114 : decode cX1_planes 114 = .ok (.iload 8, 2) := dk_21 8 (dk_at dksX1_planes_4 19 rfl rfl)
theorem dX1_planes_116 : decode cX1_planes 116 = .ok (.iload 9, 2) := dk_21 9 (dk_at dksX1_planes_4 21 rfl rfl)
theorem dX1_planes_118 : decode cX1_planes 118 = .ok (.iload_n 1, 1) := dk_27 (dk_at dksX1_planes_4 23 rfl rfl)
theorem dX1_planes_119 : decode cX1_planes 119 = .ok (.iload_n 2, 1) := dk_28 (dk_at dksX1_planes_5 0 rfl rfl)
theorem dX1_planes_120 : decode cX1_planes 120 = .ok (.invokestatic 359, 3) := dk_184 1 103 (dk_at dksX1_planes_5 1 rfl rfl)
theorem dX1_planes_123 : decode cX1_planes 123 = .ok (.iload 9, 2) := dk_21 9 (dk_at dksX1_planes_5 4 rfl rfl)
theorem dX1_planes_125 : decode cX1_planes 125 = .ok (.iload 8, 2) := dk_21 8 (dk_at dksX1_planes_5 6 rfl rfl)
theorem dX1_planes_127 : decode cX1_planes 127 = .ok (.iload_n 1, 1) := dk_27 (dk_at dksX1_planes_5 8 rfl rfl)
theorem dX1_planes_128 : decode cX1_planes 128 = .ok (.iload_n 2, 1) := dk_28 (dk_at dksX1_planes_5 9 rfl rfl)
theorem dX1_planes_129 : decode cX1_planes 129 = .ok (.invokestatic 359, 3) := dk_184 1 103 (dk_at dksX1_planes_5 10 rfl rfl)
theorem dX1_planes_132 : decode cX1_planes 132 = .ok (.iadd, 1) := dk_96 (dk_at dksX1_planes_5 13 rfl rfl)
theorem dX1_planes_133 : decode cX1_planes 133 = .ok (.istore 6, 2) := dk_54 6 (dk_at dksX1_planes_5 14 rfl rfl)
theorem dX1_planes_135 : decode cX1_planes 135 = .ok (.iinc 7 (-1), 3) := dk_132 7 255 (dk_at dksX1_planes_5 16 rfl rfl)
theorem dX1_planes_138 : decode cX1_planes 138 = .ok (.goto (-103), 3) := dk_167 255 153 (dk_at dksX1_planes_5 19 rfl rfl)
theorem dX1_planes_141 : decode cX1_planes 141 = .ok (.iload_n 3, 1) := dk_29 (dk_at dksX1_planes_5 22 rfl rfl)
theorem dX1_planes_142 : decode cX1_planes 142 = .ok (.ifCond .ne 8, 3) := dk_154 0 8 (dk_at dksX1_planes_6 0 rfl rfl)
theorem dX1_planes_145 : decode cX1_planes 145 = .ok (.iload 4, 2) := dk_21 4 (dk_at dksX1_planes_6 3 rfl rfl)
theorem dX1_planes_147 : decode cX1_planes 147 = .ok (.goto 15, 3) := dk_167 0 15 (dk_at dksX1_planes_6 5 rfl rfl)
theorem dX1_planes_150 : decode cX1_planes 150 = .ok (.iload_n 3, 1) := dk_29 (dk_at dksX1_planes_6 8 rfl rfl)
theorem dX1_planes_151 : decode cX1_planes 151 = .ok (.iconst 1, 1) := dk_4 (dk_at dksX1_planes_6 9 rfl rfl)
theorem dX1_planes_152 : decode cX1_planes 152 = .ok (.if_icmp .ne 8, 3) := dk_160 0 8 (dk_at dksX1_planes_6 10 rfl rfl)
theorem dX1_planes_155 : decode cX1_planes 155 = .ok (.iload 5, 2) := dk_21 5 (dk_at dksX1_planes_6 13 rfl rfl)
theorem dX1_planes_157 : decode cX1_planes 157 = .ok (.goto 5, 3) := dk_167 0 5 (dk_at dksX1_planes_6 15 rfl rfl)
theorem dX1_planes_160 : decode cX1_planes 160 = .ok (.iload 6, 2) := dk_21 6 (dk_at dksX1_planes_6 18 rfl rfl)
theorem dX1_planes_162 : decode cX1_planes 162 = .ok (.ireturn, 1) := dk_172 (dk_at dksX1_planes_6 20 rfl rfl)
abbrev cX1_hasBy : ByteArray := prog_1_method_38_code
def yX1_hasBy : MethodName := ⟨RX1, "hasBy", "(IIII)I"⟩
def dkwX1_hasBy_1 : List UInt8 := [167, 0, 5, 29, 116, 172]
abbrev dktX1_hasBy_1 : List UInt8 := dkwX1_hasBy_1 ++ []
def dkwX1_hasBy_0 : List UInt8 := [26, 27, 160, 0, 16, 26, 4, 160, 0, 7, 28, 167, 0, 17, 3, 167, 0, 13, 26, 154, 0, 7, 29]
abbrev dktX1_hasBy_0 : List UInt8 := dkwX1_hasBy_0 ++ dktX1_hasBy_1
theorem dksX1_hasBy_0 : cX1_hasBy.data.toList.drop 0 = dktX1_hasBy_0 := by decide +kernel
theorem dksX1_hasBy_1 : cX1_hasBy.data.toList.drop 23 = dktX1_hasBy_1 := dk_seg dksX1_hasBy_0 23 rfl rfl
theorem dX1_hasBy_0 : decode cX1_hasBy 0 = .ok (.iload_n 0, 1) := dk_26 (dk_at dksX1_hasBy_0 0 rfl rfl)
theorem dX1_hasBy_1 : decode cX1_hasBy 1 = .ok (.iload_n 1, 1) := dk_27 (dk_at dksX1_hasBy_0 1 rfl rfl)
theorem dX1_hasBy_2 : decode cX1_hasBy 2 = .ok (.if_icmp .ne 16, 3) := dk_160 0 16 (dk_at dksX1_hasBy_0 2 rfl rfl)
theorem dX1_hasBy_5 : decode cX1_hasBy 5 = .ok (.iload_n 0, 1) := dk_26 (dk_at dksX1_hasBy_0 5 rfl rfl)
theorem dX1_hasBy_6 : decode cX1_hasBy 6 = .ok (.iconst 1, 1) := dk_4 (dk_at dksX1_hasBy_0 6 rfl rfl)
theorem dX1_hasBy_7 : decode cX1_hasBy 7 = .ok (.if_icmp .ne 7, 3) := dk_160 0 7 (dk_at dksX1_hasBy_0 7 rfl rfl)
theorem dX1_hasBy_10 : decode cX1_hasBy 10 = .ok (.iload_n 2, 1) := dk_28 (dk_at dksX1_hasBy_0 10 rfl rfl)
theorem dX1_hasBy_11 : decode cX1_hasBy 11 = .ok (.goto 17, 3) := dk_167 0 17 (dk_at dksX1_hasBy_0 11 rfl rfl)
theorem dX1_hasBy_14 : decode cX1_hasBy 14 = .ok (.iconst 0, 1) := dk_3 (dk_at dksX1_hasBy_0 14 rfl rfl)
theorem dX1_hasBy_15 : decode cX1_hasBy 15 = .ok (.goto 13, 3) := dk_167 0 13 (dk_at dksX1_hasBy_0 15 rfl rfl)
theorem dX1_hasBy_18 : decode cX1_hasBy 18 = .ok (.iload_n 0, 1) := dk_26 (dk_at dksX1_hasBy_0 18 rfl rfl)
theorem dX1_hasBy_19 : decode cX1_hasBy 19 = .ok (.ifCond .ne 7, 3) := dk_154 0 7 (dk_at dksX1_hasBy_0 19 rfl rfl)
theorem dX1_hasBy_22 : decode cX1_hasBy 22 = .ok (.iload_n 3, 1) := dk_29 (dk_at dksX1_hasBy_0 22 rfl rfl)
theorem dX1_hasBy_23 : decode cX1_hasBy 23 = .ok (.goto 5, 3) := dk_167 0 5 (dk_at dksX1_hasBy_1 0 rfl rfl)
theorem dX1_hasBy_26 : decode cX1_hasBy 26 = .ok (.iload_n 3, 1) := dk_29 (dk_at dksX1_hasBy_1 3 rfl rfl)
theorem dX1_hasBy_27 : decode cX1_hasBy 27 = .ok (.ineg, 1) := dk_116 (dk_at dksX1_hasBy_1 4 rfl rfl)
theorem dX1_hasBy_28 : decode cX1_hasBy 28 = .ok (.ireturn, 1) := dk_172 (dk_at dksX1_hasBy_1 5 rfl rfl)
abbrev cX1_chairs : ByteArray := prog_1_method_41_code
def yX1_chairs : MethodName := ⟨RX1, "chairs", "(III)I"⟩
def dkwX1_chairs_4 : List UInt8 := [21, 4, 42, 180, 0, 25, 182, 0, 91, 180, 0, 248, 27, 46, 184, 0, 168, 172]
abbrev dktX1_chairs_4 : List UInt8 := dkwX1_chairs_4 ++ []
def dkwX1_chairs_3 : List UInt8 := [167, 0, 9, 21, 6, 4, 100, 54, 5, 167, 255, 214, 28, 27, 122, 4, 126, 154, 0, 7, 3, 167, 0, 20]
abbrev dktX1_chairs_3 : List UInt8 := dkwX1_chairs_3 ++ dktX1_chairs_4
def dkwX1_chairs_2 : List UInt8 := [21, 5, 96, 4, 96, 5, 108, 54, 6, 42, 28, 21, 6, 182, 1, 107, 29, 163, 0, 10, 21, 6, 54, 4]
abbrev dktX1_chairs_2 : List UInt8 := dkwX1_chairs_2 ++ dktX1_chairs_3
def dkwX1_chairs_1 : List UInt8 := [3, 17, 39, 15, 182, 0, 131, 3, 54, 4, 17, 3, 231, 54, 5, 21, 4, 21, 5, 162, 0, 41, 21, 4]
abbrev dktX1_chairs_1 : List UInt8 := dkwX1_chairs_1 ++ dktX1_chairs_2
def dkwX1_chairs_0 : List UInt8 := [42, 27, 182, 1, 10, 42, 28, 3, 4, 42, 180, 0, 83, 180, 0, 112, 120, 4, 100, 182, 0, 131, 42, 29]
abbrev dktX1_chairs_0 : List UInt8 := dkwX1_chairs_0 ++ dktX1_chairs_1
theorem dksX1_chairs_0 : cX1_chairs.data.toList.drop 0 = dktX1_chairs_0 := by decide +kernel
theorem dksX1_chairs_1 : cX1_chairs.data.toList.drop 24 = dktX1_chairs_1 := dk_seg dksX1_chairs_0 24 rfl rfl
theorem dksX1_chairs_2 : cX1_chairs.data.toList.drop 48 = dktX1_chairs_2 := dk_seg dksX1_chairs_1 24 rfl rfl
theorem dksX1_chairs_3 : cX1_chairs.data.toList.drop 72 = dktX1_chairs_3 := dk_seg dksX1_chairs_2 24 rfl rfl
theorem dksX1_chairs_4 : cX1_chairs.data.toList.drop 96 = dktX1_chairs_4 := dk_seg dksX1_chairs_3 24 rfl rfl
theorem dX1_chairs_0 : decode cX1_chairs 0 = .ok (.aload_n 0, 1) := dk_42 (dk_at dksX1_chairs_0 0 rfl rfl)
theorem dX1_chairs_1 : decode cX1_chairs 1 = .ok (.iload_n 1, 1) := dk_27 (dk_at dksX1_chairs_0 1 rfl rfl)
theorem dX1_chairs_2 : decode cX1_chairs 2 = .ok (.invokevirtual 266, 3) := dk_182 1 10 (dk_at dksX1_chairs_0 2 rfl rfl)
theorem dX1_chairs_5 : decode cX1_chairs 5 = .ok (.aload_n 0, 1) := dk_42 (dk_at dksX1_chairs_0 5 rfl rfl)
theorem dX1_chairs_6 : decode cX1_chairs 6 = .ok (.iload_n 2, 1) := dk_28 (dk_at dksX1_chairs_0 6 rfl rfl)
theorem dX1_chairs_7 : decode cX1_chairs 7 = .ok (.iconst 0, 1) := dk_3 (dk_at dksX1_chairs_0 7 rfl rfl)
theorem dX1_chairs_8 : decode cX1_chairs 8 = .ok (.iconst 1, 1) := dk_4 (dk_at dksX1_chairs_0 8 rfl rfl)
theorem dX1_chairs_9 : decode cX1_chairs 9 = .ok (.aload_n 0, 1) := dk_42 (dk_at dksX1_chairs_0 9 rfl rfl)
theorem dX1_chairs_10 : decode cX1_chairs 10 = .ok (.getfield 83, 3) := dk_180 0 83 (dk_at dksX1_chairs_0 10 rfl rfl)
theorem dX1_chairs_13 : decode cX1_chairs 13 = .ok (.getfield 112, 3) := dk_180 0 112 (dk_at dksX1_chairs_0 13 rfl rfl)
theorem dX1_chairs_16 : decode cX1_chairs 16 = .ok (.ishl, 1) := dk_120 (dk_at dksX1_chairs_0 16 rfl rfl)
theorem dX1_chairs_17 : decode cX1_chairs 17 = .ok (.iconst 1, 1) := dk_4 (dk_at dksX1_chairs_0 17 rfl rfl)
theorem dX1_chairs_18 : decode cX1_chairs 18 = .ok (.isub, 1) := dk_100 (dk_at dksX1_chairs_0 18 rfl rfl)
theorem dX1_chairs_19 : decode cX1_chairs 19 = .ok (.invokevirtual 131, 3) := dk_182 0 131 (dk_at dksX1_chairs_0 19 rfl rfl)
theorem dX1_chairs_22 : decode cX1_chairs 22 = .ok (.aload_n 0, 1) := dk_42 (dk_at dksX1_chairs_0 22 rfl rfl)
theorem dX1_chairs_23 : decode cX1_chairs 23 = .ok (.iload_n 3, 1) := dk_29 (dk_at dksX1_chairs_0 23 rfl rfl)
theorem dX1_chairs_24 : decode cX1_chairs 24 = .ok (.iconst 0, 1) := dk_3 (dk_at dksX1_chairs_1 0 rfl rfl)
theorem dX1_chairs_25 : decode cX1_chairs 25 = .ok (.sipush 9999, 3) := dk_17 39 15 (dk_at dksX1_chairs_1 1 rfl rfl)
theorem dX1_chairs_28 : decode cX1_chairs 28 = .ok (.invokevirtual 131, 3) := dk_182 0 131 (dk_at dksX1_chairs_1 4 rfl rfl)
theorem dX1_chairs_31 : decode cX1_chairs 31 = .ok (.iconst 0, 1) := dk_3 (dk_at dksX1_chairs_1 7 rfl rfl)
theorem dX1_chairs_32 : decode cX1_chairs 32 = .ok (.istore 4, 2) := dk_54 4 (dk_at dksX1_chairs_1 8 rfl rfl)
theorem dX1_chairs_34 : decode cX1_chairs 34 = .ok (.sipush 999, 3) := dk_17 3 231 (dk_at dksX1_chairs_1 10 rfl rfl)
theorem dX1_chairs_37 : decode cX1_chairs 37 = .ok (.istore 5, 2) := dk_54 5 (dk_at dksX1_chairs_1 13 rfl rfl)
theorem dX1_chairs_39 : decode cX1_chairs 39 = .ok (.iload 4, 2) := dk_21 4 (dk_at dksX1_chairs_1 15 rfl rfl)
theorem dX1_chairs_41 : decode cX1_chairs 41 = .ok (.iload 5, 2) := dk_21 5 (dk_at dksX1_chairs_1 17 rfl rfl)
theorem dX1_chairs_43 : decode cX1_chairs 43 = .ok (.if_icmp .ge 41, 3) := dk_162 0 41 (dk_at dksX1_chairs_1 19 rfl rfl)
theorem dX1_chairs_46 : decode cX1_chairs 46 = .ok (.iload 4, 2) := dk_21 4 (dk_at dksX1_chairs_1 22 rfl rfl)
theorem dX1_chairs_48 : decode cX1_chairs 48 = .ok (.iload 5, 2) := dk_21 5 (dk_at dksX1_chairs_2 0 rfl rfl)
theorem dX1_chairs_50 : decode cX1_chairs 50 = .ok (.iadd, 1) := dk_96 (dk_at dksX1_chairs_2 2 rfl rfl)
theorem dX1_chairs_51 : decode cX1_chairs 51 = .ok (.iconst 1, 1) := dk_4 (dk_at dksX1_chairs_2 3 rfl rfl)
theorem dX1_chairs_52 : decode cX1_chairs 52 = .ok (.iadd, 1) := dk_96 (dk_at dksX1_chairs_2 4 rfl rfl)
theorem dX1_chairs_53 : decode cX1_chairs 53 = .ok (.iconst 2, 1) := dk_5 (dk_at dksX1_chairs_2 5 rfl rfl)
theorem dX1_chairs_54 : decode cX1_chairs 54 = .ok (.idiv, 1) := dk_108 (dk_at dksX1_chairs_2 6 rfl rfl)
theorem dX1_chairs_55 : decode cX1_chairs 55 = .ok (.istore 6, 2) := dk_54 6 (dk_at dksX1_chairs_2 7 rfl rfl)
theorem dX1_chairs_57 : decode cX1_chairs 57 = .ok (.aload_n 0, 1) := dk_42 (dk_at dksX1_chairs_2 9 rfl rfl)
theorem dX1_chairs_58 : decode cX1_chairs 58 = .ok (.iload_n 2, 1) := dk_28 (dk_at dksX1_chairs_2 10 rfl rfl)
theorem dX1_chairs_59 : decode cX1_chairs 59 = .ok (.iload 6, 2) := dk_21 6 (dk_at dksX1_chairs_2 11 rfl rfl)
theorem dX1_chairs_61 : decode cX1_chairs 61 = .ok (.invokevirtual 363, 3) := dk_182 1 107 (dk_at dksX1_chairs_2 13 rfl rfl)
theorem dX1_chairs_64 : decode cX1_chairs 64 = .ok (.iload_n 3, 1) := dk_29 (dk_at dksX1_chairs_2 16 rfl rfl)
theorem dX1_chairs_65 : decode cX1_chairs 65 = .ok (.if_icmp .gt 10, 3) := dk_163 0 10 (dk_at dksX1_chairs_2 17 rfl rfl)
theorem dX1_chairs_68 : decode cX1_chairs 68 = .ok (.iload 6, 2) := dk_21 6 (dk_at dksX1_chairs_2 20 rfl rfl)
theorem dX1_chairs_70 : decode cX1_chairs 70 = .ok (.istore 4, 2) := dk_54 4 (dk_at dksX1_chairs_2 22 rfl rfl)
theorem dX1_chairs_72 : decode cX1_chairs 72 = .ok (.goto 9, 3) := dk_167 0 9 (dk_at dksX1_chairs_3 0 rfl rfl)
theorem dX1_chairs_75 : decode cX1_chairs 75 = .ok (.iload 6, 2) := dk_21 6 (dk_at dksX1_chairs_3 3 rfl rfl)
theorem dX1_chairs_77 : decode cX1_chairs 77 = .ok (.iconst 1, 1) := dk_4 (dk_at dksX1_chairs_3 5 rfl rfl)
theorem dX1_chairs_78 : decode cX1_chairs 78 = .ok (.isub, 1) := dk_100 (dk_at dksX1_chairs_3 6 rfl rfl)
theorem dX1_chairs_79 : decode cX1_chairs 79 = .ok (.istore 5, 2) := dk_54 5 (dk_at dksX1_chairs_3 7 rfl rfl)
theorem dX1_chairs_81 : decode cX1_chairs 81 = .ok (.goto (-42), 3) := dk_167 255 214 (dk_at dksX1_chairs_3 9 rfl rfl)
theorem dX1_chairs_84 : decode cX1_chairs 84 = .ok (.iload_n 2, 1) := dk_28 (dk_at dksX1_chairs_3 12 rfl rfl)
theorem dX1_chairs_85 : decode cX1_chairs 85 = .ok (.iload_n 1, 1) := dk_27 (dk_at dksX1_chairs_3 13 rfl rfl)
theorem dX1_chairs_86 : decode cX1_chairs 86 = .ok (.ishr, 1) := dk_122 (dk_at dksX1_chairs_3 14 rfl rfl)
theorem dX1_chairs_87 : decode cX1_chairs 87 = .ok (.iconst 1, 1) := dk_4 (dk_at dksX1_chairs_3 15 rfl rfl)
theorem dX1_chairs_88 : decode cX1_chairs 88 = .ok (.iand, 1) := dk_126 (dk_at dksX1_chairs_3 16 rfl rfl)
theorem dX1_chairs_89 : decode cX1_chairs 89 = .ok (.ifCond .ne 7, 3) := dk_154 0 7 (dk_at dksX1_chairs_3 17 rfl rfl)
theorem dX1_chairs_92 : decode cX1_chairs 92 = .ok (.iconst 0, 1) := dk_3 (dk_at dksX1_chairs_3 20 rfl rfl)
theorem dX1_chairs_93 : decode cX1_chairs 93 = .ok (.goto 20, 3) := dk_167 0 20 (dk_at dksX1_chairs_3 21 rfl rfl)
theorem dX1_chairs_96 : decode cX1_chairs 96 = .ok (.iload 4, 2) := dk_21 4 (dk_at dksX1_chairs_4 0 rfl rfl)
theorem dX1_chairs_98 : decode cX1_chairs 98 = .ok (.aload_n 0, 1) := dk_42 (dk_at dksX1_chairs_4 2 rfl rfl)
theorem dX1_chairs_99 : decode cX1_chairs 99 = .ok (.getfield 25, 3) := dk_180 0 25 (dk_at dksX1_chairs_4 3 rfl rfl)
theorem dX1_chairs_102 : decode cX1_chairs 102 = .ok (.invokevirtual 91, 3) := dk_182 0 91 (dk_at dksX1_chairs_4 6 rfl rfl)
theorem dX1_chairs_105 : decode cX1_chairs 105 = .ok (.getfield 248, 3) := dk_180 0 248 (dk_at dksX1_chairs_4 9 rfl rfl)
theorem dX1_chairs_108 : decode cX1_chairs 108 = .ok (.iload_n 1, 1) := dk_27 (dk_at dksX1_chairs_4 12 rfl rfl)
theorem dX1_chairs_109 : decode cX1_chairs 109 = .ok (.iaload, 1) := dk_46 (dk_at dksX1_chairs_4 13 rfl rfl)
theorem dX1_chairs_110 : decode cX1_chairs 110 = .ok (.invokestatic 168, 3) := dk_184 0 168 (dk_at dksX1_chairs_4 14 rfl rfl)
theorem dX1_chairs_113 : decode cX1_chairs 113 = .ok (.ireturn, 1) := dk_172 (dk_at dksX1_chairs_4 17 rfl rfl)
abbrev cX1_givenBy : ByteArray := prog_1_method_40_code
def yX1_givenBy : MethodName := ⟨RX1, "givenBy", "(II)I"⟩
def dkwX1_givenBy_2 : List UInt8 := [132, 4, 1, 167, 255, 211, 29, 172]
abbrev dktX1_givenBy_2 : List UInt8 := dkwX1_givenBy_2 ++ []
def dkwX1_givenBy_1 : List UInt8 := [160, 0, 23, 29, 28, 42, 180, 0, 25, 182, 0, 91, 180, 0, 248, 21, 4, 46, 184, 0, 168, 96, 62]
abbrev dktX1_givenBy_1 : List UInt8 := dkwX1_givenBy_1 ++ dktX1_givenBy_2
def dkwX1_givenBy_0 : List UInt8 := [3, 62, 3, 54, 4, 21, 4, 42, 180, 0, 83, 180, 0, 112, 162, 0, 39, 27, 21, 4, 122, 4, 126, 4]
abbrev dktX1_givenBy_0 : List UInt8 := dkwX1_givenBy_0 ++ dktX1_givenBy_1
theorem dksX1_givenBy_0 : cX1_givenBy.data.toList.drop 0 = dktX1_givenBy_0 := by decide +kernel
theorem dksX1_givenBy_1 : cX1_givenBy.data.toList.drop 24 = dktX1_givenBy_1 := dk_seg dksX1_givenBy_0 24 rfl rfl
theorem dksX1_givenBy_2 : cX1_givenBy.data.toList.drop 47 = dktX1_givenBy_2 := dk_seg dksX1_givenBy_1 23 rfl rfl
theorem dX1_givenBy_0 : decode cX1_givenBy 0 = .ok (.iconst 0, 1) := dk_3 (dk_at dksX1_givenBy_0 0 rfl rfl)
theorem dX1_givenBy_1 : decode cX1_givenBy 1 = .ok (.istore_n 3, 1) := dk_62 (dk_at dksX1_givenBy_0 1 rfl rfl)
theorem dX1_givenBy_2 : decode cX1_givenBy 2 = .ok (.iconst 0, 1) := dk_3 (dk_at dksX1_givenBy_0 2 rfl rfl)
theorem dX1_givenBy_3 : decode cX1_givenBy 3 = .ok (.istore 4, 2) := dk_54 4 (dk_at dksX1_givenBy_0 3 rfl rfl)
theorem dX1_givenBy_5 : decode cX1_givenBy 5 = .ok (.iload 4, 2) := dk_21 4 (dk_at dksX1_givenBy_0 5 rfl rfl)
theorem dX1_givenBy_7 : decode cX1_givenBy 7 = .ok (.aload_n 0, 1) := dk_42 (dk_at dksX1_givenBy_0 7 rfl rfl)
theorem dX1_givenBy_8 : decode cX1_givenBy 8 = .ok (.getfield 83, 3) := dk_180 0 83 (dk_at dksX1_givenBy_0 8 rfl rfl)
theorem dX1_givenBy_11 : decode cX1_givenBy 11 = .ok (.getfield 112, 3) := dk_180 0 112 (dk_at dksX1_givenBy_0 11 rfl rfl)
theorem dX1_givenBy_14 : decode cX1_givenBy 14 = .ok (.if_icmp .ge 39, 3) := dk_162 0 39 (dk_at dksX1_givenBy_0 14 rfl rfl)
theorem dX1_givenBy_17 : decode cX1_givenBy 17 = .ok (.iload_n 1, 1) := dk_27 (dk_at dksX1_givenBy_0 17 rfl rfl)
theorem dX1_givenBy_18 : decode cX1_givenBy 18 = .ok (.iload 4, 2) := dk_21 4 (dk_at dksX1_givenBy_0 18 rfl rfl)
theorem dX1_givenBy_20 : decode cX1_givenBy 20 = .ok (.ishr, 1) := dk_122 (dk_at dksX1_givenBy_0 20 rfl rfl)
theorem dX1_givenBy_21 : decode cX1_givenBy 21 = .ok (.iconst 1, 1) := dk_4 (dk_at dksX1_givenBy_0 21 rfl rfl)
theorem dX1_givenBy_22 : decode cX1_givenBy 22 = .ok (.iand, 1) := dk_126 (dk_at dksX1_givenBy_0 22 rfl rfl)
theorem dX1_givenBy_23 : decode cX1_givenBy 23 = .ok (.iconst 1, 1) := dk_4 (dk_at dksX1_givenBy_0 23 rfl rfl)
theorem dX1_givenBy_24 : decode cX1_givenBy 24 = .ok (.if_icmp .ne 23, 3) := dk_160 0 23 (dk_at dksX1_givenBy_1 0 rfl rfl)
theorem dX1_givenBy_27 : decode cX1_givenBy 27 = .ok (.iload_n 3, 1) := dk_29 (dk_at dksX1_givenBy_1 3 rfl rfl)
theorem dX1_givenBy_28 : decode cX1_givenBy 28 = .ok (.iload_n 2, 1) := dk_28 (dk_at dksX1_givenBy_1 4 rfl rfl)
theorem dX1_givenBy_29 : decode cX1_givenBy 29 = .ok (.aload_n 0, 1) := dk_42 (dk_at dksX1_givenBy_1 5 rfl rfl)
theorem dX1_givenBy_30 : decode cX1_givenBy 30 = .ok (.getfield 25, 3) := dk_180 0 25 (dk_at dksX1_givenBy_1 6 rfl rfl)
theorem dX1_givenBy_33 : decode cX1_givenBy 33 = .ok (.invokevirtual 91, 3) := dk_182 0 91 (dk_at dksX1_givenBy_1 9 rfl rfl)
theorem dX1_givenBy_36 : decode cX1_givenBy 36 = .ok (.getfield 248, 3) := dk_180 0 248 (dk_at dksX1_givenBy_1 12 rfl rfl)
theorem dX1_givenBy_39 : decode cX1_givenBy 39 = .ok (.iload 4, 2) := dk_21 4 (dk_at dksX1_givenBy_1 15 rfl rfl)
theorem dX1_givenBy_41 : decode cX1_givenBy 41 = .ok (.iaload, 1) := dk_46 (dk_at dksX1_givenBy_1 17 rfl rfl)
theorem dX1_givenBy_42 : decode cX1_givenBy 42 = .ok (.invokestatic 168, 3) := dk_184 0 168 (dk_at dksX1_givenBy_1 18 rfl rfl)
theorem dX1_givenBy_45 : decode cX1_givenBy 45 = .ok (.iadd, 1) := dk_96 (dk_at dksX1_givenBy_1 21 rfl rfl)
theorem dX1_givenBy_46 : decode cX1_givenBy 46 = .ok (.istore_n 3, 1) := dk_62 (dk_at dksX1_givenBy_1 22 rfl rfl)
theorem dX1_givenBy_47 : decode cX1_givenBy 47 = .ok (.iinc 4 1, 3) := dk_132 4 1 (dk_at dksX1_givenBy_2 0 rfl rfl)
theorem dX1_givenBy_50 : decode cX1_givenBy 50 = .ok (.goto (-45), 3) := dk_167 255 211 (dk_at dksX1_givenBy_2 3 rfl rfl)
theorem dX1_givenBy_53 : decode cX1_givenBy 53 = .ok (.iload_n 3, 1) := dk_29 (dk_at dksX1_givenBy_2 6 rfl rfl)
theorem dX1_givenBy_54 : decode cX1_givenBy 54 = .ok (.ireturn, 1) := dk_172 (dk_at dksX1_givenBy_2 7 rfl rfl)
abbrev cX1_tallest : ByteArray := prog_1_method_42_code
def yX1_tallest : MethodName := ⟨RX1, "tallest", "(I)I"⟩
def dkwX1_tallest_3 : List UInt8 := [167, 0, 6, 44, 29, 46, 172]
abbrev dktX1_tallest_3 : List UInt8 := dkwX1_tallest_3 ++ []
def dkwX1_tallest_2 : List UInt8 := [164, 0, 6, 21, 4, 62, 132, 4, 1, 167, 255, 223, 27, 153, 0, 8, 29, 2, 160, 0, 7, 29]
abbrev dktX1_tallest_2 : List UInt8 := dkwX1_tallest_2 ++ dktX1_tallest_3
def dkwX1_tallest_1 : List UInt8 := [21, 4, 42, 180, 0, 83, 180, 0, 112, 162, 0, 27, 29, 2, 159, 0, 13, 44, 21, 4, 46, 44, 29, 46]
abbrev dktX1_tallest_1 : List UInt8 := dkwX1_tallest_1 ++ dktX1_tallest_2
def dkwX1_tallest_0 : List UInt8 := [42, 27, 3, 4, 182, 0, 131, 42, 180, 0, 25, 182, 0, 91, 180, 0, 248, 77, 2, 62, 3, 54, 4]
abbrev dktX1_tallest_0 : List UInt8 := dkwX1_tallest_0 ++ dktX1_tallest_1
theorem dksX1_tallest_0 : cX1_tallest.data.toList.drop 0 = dktX1_tallest_0 := by decide +kernel
theorem dksX1_tallest_1 : cX1_tallest.data.toList.drop 23 = dktX1_tallest_1 := dk_seg dksX1_tallest_0 23 rfl rfl
theorem dksX1_tallest_2 : cX1_tallest.data.toList.drop 47 = dktX1_tallest_2 := dk_seg dksX1_tallest_1 24 rfl rfl
theorem dksX1_tallest_3 : cX1_tallest.data.toList.drop 69 = dktX1_tallest_3 := dk_seg dksX1_tallest_2 22 rfl rfl
theorem dX1_tallest_0 : decode cX1_tallest 0 = .ok (.aload_n 0, 1) := dk_42 (dk_at dksX1_tallest_0 0 rfl rfl)
theorem dX1_tallest_1 : decode cX1_tallest 1 = .ok (.iload_n 1, 1) := dk_27 (dk_at dksX1_tallest_0 1 rfl rfl)
theorem dX1_tallest_2 : decode cX1_tallest 2 = .ok (.iconst 0, 1) := dk_3 (dk_at dksX1_tallest_0 2 rfl rfl)
theorem dX1_tallest_3 : decode cX1_tallest 3 = .ok (.iconst 1, 1) := dk_4 (dk_at dksX1_tallest_0 3 rfl rfl)
theorem dX1_tallest_4 : decode cX1_tallest 4 = .ok (.invokevirtual 131, 3) := dk_182 0 131 (dk_at dksX1_tallest_0 4 rfl rfl)
theorem dX1_tallest_7 : decode cX1_tallest 7 = .ok (.aload_n 0, 1) := dk_42 (dk_at dksX1_tallest_0 7 rfl rfl)
theorem dX1_tallest_8 : decode cX1_tallest 8 = .ok (.getfield 25, 3) := dk_180 0 25 (dk_at dksX1_tallest_0 8 rfl rfl)
theorem dX1_tallest_11 : decode cX1_tallest 11 = .ok (.invokevirtual 91, 3) := dk_182 0 91 (dk_at dksX1_tallest_0 11 rfl rfl)
theorem dX1_tallest_14 : decode cX1_tallest 14 = .ok (.getfield 248, 3) := dk_180 0 248 (dk_at dksX1_tallest_0 14 rfl rfl)
theorem dX1_tallest_17 : decode cX1_tallest 17 = .ok (.astore_n 2, 1) := dk_77 (dk_at dksX1_tallest_0 17 rfl rfl)
theorem dX1_tallest_18 : decode cX1_tallest 18 = .ok (.iconst (-1), 1) := dk_2 (dk_at dksX1_tallest_0 18 rfl rfl)
theorem dX1_tallest_19 : decode cX1_tallest 19 = .ok (.istore_n 3, 1) := dk_62 (dk_at dksX1_tallest_0 19 rfl rfl)
theorem dX1_tallest_20 : decode cX1_tallest 20 = .ok (.iconst 0, 1) := dk_3 (dk_at dksX1_tallest_0 20 rfl rfl)
theorem dX1_tallest_21 : decode cX1_tallest 21 = .ok (.istore 4, 2) := dk_54 4 (dk_at dksX1_tallest_0 21 rfl rfl)
theorem dX1_tallest_23 : decode cX1_tallest 23 = .ok (.iload 4, 2) := dk_21 4 (dk_at dksX1_tallest_1 0 rfl rfl)
theorem dX1_tallest_25 : decode cX1_tallest 25 = .ok (.aload_n 0, 1) := dk_42 (dk_at dksX1_tallest_1 2 rfl rfl)
theorem dX1_tallest_26 : decode cX1_tallest 26 = .ok (.getfield 83, 3) := dk_180 0 83 (dk_at dksX1_tallest_1 3 rfl rfl)
theorem dX1_tallest_29 : decode cX1_tallest 29 = .ok (.getfield 112, 3) := dk_180 0 112 (dk_at dksX1_tallest_1 6 rfl rfl)
theorem dX1_tallest_32 : decode cX1_tallest 32 = .ok (.if_icmp .ge 27, 3) := dk_162 0 27 (dk_at dksX1_tallest_1 9 rfl rfl)
theorem dX1_tallest_35 : decode cX1_tallest 35 = .ok (.iload_n 3, 1) := dk_29 (dk_at dksX1_tallest_1 12 rfl rfl)
theorem dX1_tallest_36 : decode cX1_tallest 36 = .ok (.iconst (-1), 1) := dk_2 (dk_at dksX1_tallest_1 13 rfl rfl)
theorem dX1_tallest_37 : decode cX1_tallest 37 = .ok (.if_icmp .eq 13, 3) := dk_159 0 13 (dk_at dksX1_tallest_1 14 rfl rfl)
theorem dX1_tallest_40 : decode cX1_tallest 40 = .ok (.aload_n 2, 1) := dk_44 (dk_at dksX1_tallest_1 17 rfl rfl)
theorem dX1_tallest_41 : decode cX1_tallest 41 = .ok (.iload 4, 2) := dk_21 4 (dk_at dksX1_tallest_1 18 rfl rfl)
theorem dX1_tallest_43 : decode cX1_tallest 43 = .ok (.iaload, 1) := dk_46 (dk_at dksX1_tallest_1 20 rfl rfl)
theorem dX1_tallest_44 : decode cX1_tallest 44 = .ok (.aload_n 2, 1) := dk_44 (dk_at dksX1_tallest_1 21 rfl rfl)
theorem dX1_tallest_45 : decode cX1_tallest 45 = .ok (.iload_n 3, 1) := dk_29 (dk_at dksX1_tallest_1 22 rfl rfl)
theorem dX1_tallest_46 : decode cX1_tallest 46 = .ok (.iaload, 1) := dk_46 (dk_at dksX1_tallest_1 23 rfl rfl)
theorem dX1_tallest_47 : decode cX1_tallest 47 = .ok (.if_icmp .le 6, 3) := dk_164 0 6 (dk_at dksX1_tallest_2 0 rfl rfl)
theorem dX1_tallest_50 : decode cX1_tallest 50 = .ok (.iload 4, 2) := dk_21 4 (dk_at dksX1_tallest_2 3 rfl rfl)
theorem dX1_tallest_52 : decode cX1_tallest 52 = .ok (.istore_n 3, 1) := dk_62 (dk_at dksX1_tallest_2 5 rfl rfl)
theorem dX1_tallest_53 : decode cX1_tallest 53 = .ok (.iinc 4 1, 3) := dk_132 4 1 (dk_at dksX1_tallest_2 6 rfl rfl)
theorem dX1_tallest_56 : decode cX1_tallest 56 = .ok (.goto (-33), 3) := dk_167 255 223 (dk_at dksX1_tallest_2 9 rfl rfl)
theorem dX1_tallest_59 : decode cX1_tallest 59 = .ok (.iload_n 1, 1) := dk_27 (dk_at dksX1_tallest_2 12 rfl rfl)
theorem dX1_tallest_60 : decode cX1_tallest 60 = .ok (.ifCond .eq 8, 3) := dk_153 0 8 (dk_at dksX1_tallest_2 13 rfl rfl)
theorem dX1_tallest_63 : decode cX1_tallest 63 = .ok (.iload_n 3, 1) := dk_29 (dk_at dksX1_tallest_2 16 rfl rfl)
theorem dX1_tallest_64 : decode cX1_tallest 64 = .ok (.iconst (-1), 1) := dk_2 (dk_at dksX1_tallest_2 17 rfl rfl)
theorem dX1_tallest_65 : decode cX1_tallest 65 = .ok (.if_icmp .ne 7, 3) := dk_160 0 7 (dk_at dksX1_tallest_2 18 rfl rfl)
theorem dX1_tallest_68 : decode cX1_tallest 68 = .ok (.iload_n 3, 1) := dk_29 (dk_at dksX1_tallest_2 21 rfl rfl)
theorem dX1_tallest_69 : decode cX1_tallest 69 = .ok (.goto 6, 3) := dk_167 0 6 (dk_at dksX1_tallest_3 0 rfl rfl)
theorem dX1_tallest_72 : decode cX1_tallest 72 = .ok (.aload_n 2, 1) := dk_44 (dk_at dksX1_tallest_3 3 rfl rfl)
theorem dX1_tallest_73 : decode cX1_tallest 73 = .ok (.iload_n 3, 1) := dk_29 (dk_at dksX1_tallest_3 4 rfl rfl)
theorem dX1_tallest_74 : decode cX1_tallest 74 = .ok (.iaload, 1) := dk_46 (dk_at dksX1_tallest_3 5 rfl rfl)
theorem dX1_tallest_75 : decode cX1_tallest 75 = .ok (.ireturn, 1) := dk_172 (dk_at dksX1_tallest_3 6 rfl rfl)
abbrev cX1_gained : ByteArray := prog_1_method_43_code
def yX1_gained : MethodName := ⟨RX1, "gained", "(I)I"⟩
def dkwX1_gained_3 : List UInt8 := [167, 255, 208, 29, 172]
abbrev dktX1_gained_3 : List UInt8 := dkwX1_gained_3 ++ []
def dkwX1_gained_2 : List UInt8 := [182, 1, 19, 184, 1, 110, 4, 27, 100, 160, 0, 10, 29, 4, 21, 4, 120, 128, 62, 132, 4, 1]
abbrev dktX1_gained_2 : List UInt8 := dkwX1_gained_2 ++ dktX1_gained_3
def dkwX1_gained_1 : List UInt8 := [180, 0, 83, 180, 0, 112, 162, 0, 42, 44, 180, 0, 239, 21, 4, 46, 2, 159, 0, 25, 44, 21, 4]
abbrev dktX1_gained_1 : List UInt8 := dkwX1_gained_1 ++ dktX1_gained_2
def dkwX1_gained_0 : List UInt8 := [42, 27, 3, 5, 182, 0, 131, 42, 180, 0, 25, 182, 0, 91, 77, 3, 62, 3, 54, 4, 21, 4, 42]
abbrev dktX1_gained_0 : List UInt8 := dkwX1_gained_0 ++ dktX1_gained_1
theorem dksX1_gained_0 : cX1_gained.data.toList.drop 0 = dktX1_gained_0 := by decide +kernel
theorem dksX1_gained_1 : cX1_gained.data.toList.drop 23 = dktX1_gained_1 := dk_seg dksX1_gained_0 23 rfl rfl
theorem dksX1_gained_2 : cX1_gained.data.toList.drop 46 = dktX1_gained_2 := dk_seg dksX1_gained_1 23 rfl rfl
theorem dksX1_gained_3 : cX1_gained.data.toList.drop 68 = dktX1_gained_3 := dk_seg dksX1_gained_2 22 rfl rfl
theorem dX1_gained_0 : decode cX1_gained 0 = .ok (.aload_n 0, 1) := dk_42 (dk_at dksX1_gained_0 0 rfl rfl)
theorem dX1_gained_1 : decode cX1_gained 1 = .ok (.iload_n 1, 1) := dk_27 (dk_at dksX1_gained_0 1 rfl rfl)
theorem dX1_gained_2 : decode cX1_gained 2 = .ok (.iconst 0, 1) := dk_3 (dk_at dksX1_gained_0 2 rfl rfl)
theorem dX1_gained_3 : decode cX1_gained 3 = .ok (.iconst 2, 1) := dk_5 (dk_at dksX1_gained_0 3 rfl rfl)
theorem dX1_gained_4 : decode cX1_gained 4 = .ok (.invokevirtual 131, 3) := dk_182 0 131 (dk_at dksX1_gained_0 4 rfl rfl)
theorem dX1_gained_7 : decode cX1_gained 7 = .ok (.aload_n 0, 1) := dk_42 (dk_at dksX1_gained_0 7 rfl rfl)
theorem dX1_gained_8 : decode cX1_gained 8 = .ok (.getfield 25, 3) := dk_180 0 25 (dk_at dksX1_gained_0 8 rfl rfl)
theorem dX1_gained_11 : decode cX1_gained 11 = .ok (.invokevirtual 91, 3) := dk_182 0 91 (dk_at dksX1_gained_0 11 rfl rfl)
theorem dX1_gained_14 : decode cX1_gained 14 = .ok (.astore_n 2, 1) := dk_77 (dk_at dksX1_gained_0 14 rfl rfl)
theorem dX1_gained_15 : decode cX1_gained 15 = .ok (.iconst 0, 1) := dk_3 (dk_at dksX1_gained_0 15 rfl rfl)
theorem dX1_gained_16 : decode cX1_gained 16 = .ok (.istore_n 3, 1) := dk_62 (dk_at dksX1_gained_0 16 rfl rfl)
theorem dX1_gained_17 : decode cX1_gained 17 = .ok (.iconst 0, 1) := dk_3 (dk_at dksX1_gained_0 17 rfl rfl)
theorem dX1_gained_18 : decode cX1_gained 18 = .ok (.istore 4, 2) := dk_54 4 (dk_at dksX1_gained_0 18 rfl rfl)
theorem dX1_gained_20 : decode cX1_gained 20 = .ok (.iload 4, 2) := dk_21 4 (dk_at dksX1_gained_0 20 rfl rfl)
theorem dX1_gained_22 : decode cX1_gained 22 = .ok (.aload_n 0, 1) := dk_42 (dk_at dksX1_gained_0 22 rfl rfl)
theorem dX1_gained_23 : decode cX1_gained 23 = .ok (.getfield 83, 3) := dk_180 0 83 (dk_at dksX1_gained_1 0 rfl rfl)
theorem dX1_gained_26 : decode cX1_gained 26 = .ok (.getfield 112, 3) := dk_180 0 112 (dk_at dksX1_gained_1 3 rfl rfl)
theorem dX1_gained_29 : decode cX1_gained 29 = .ok (.if_icmp .ge 42, 3) := dk_162 0 42 (dk_at dksX1_gained_1 6 rfl rfl)
theorem dX1_gained_32 : decode cX1_gained 32 = .ok (.aload_n 2, 1) := dk_44 (dk_at dksX1_gained_1 9 rfl rfl)
theorem dX1_gained_33 : decode cX1_gained 33 = .ok (.getfield 239, 3) := dk_180 0 239 (dk_at dksX1_gained_1 10 rfl rfl)
theorem dX1_gained_36 : decode cX1_gained 36 = .ok (.iload 4, 2) := dk_21 4 (dk_at dksX1_gained_1 13 rfl rfl)
theorem dX1_gained_38 : decode cX1_gained 38 = .ok (.iaload, 1) := dk_46 (dk_at dksX1_gained_1 15 rfl rfl)
theorem dX1_gained_39 : decode cX1_gained 39 = .ok (.iconst (-1), 1) := dk_2 (dk_at dksX1_gained_1 16 rfl rfl)
theorem dX1_gained_40 : decode cX1_gained 40 = .ok (.if_icmp .eq 25, 3) := dk_159 0 25 (dk_at dksX1_gained_1 17 rfl rfl)
theorem dX1_gained_43 : decode cX1_gained 43 = .ok (.aload_n 2, 1) := dk_44 (dk_at dksX1_gained_1 20 rfl rfl)
theorem dX1_gained_44 : decode cX1_gained 44 = .ok (.iload 4, 2) := dk_21 4 (dk_at dksX1_gained_1 21 rfl rfl)
theorem dX1_gained_46 : decode cX1_gained 46 = .ok (.invokevirtual 275, 3) := dk_182 1 19 (dk_at dksX1_gained_2 0 rfl rfl)
theorem dX1_gained_49 : decode cX1_gained 49 = .ok (.invokestatic 366, 3) := dk_184 1 110 (dk_at dksX1_gained_2 3 rfl rfl)
theorem dX1_gained_52 : decode cX1_gained 52 = .ok (.iconst 1, 1) := dk_4 (dk_at dksX1_gained_2 6 rfl rfl)
theorem dX1_gained_53 : decode cX1_gained 53 = .ok (.iload_n 1, 1) := dk_27 (dk_at dksX1_gained_2 7 rfl rfl)
theorem dX1_gained_54 : decode cX1_gained 54 = .ok (.isub, 1) := dk_100 (dk_at dksX1_gained_2 8 rfl rfl)
theorem dX1_gained_55 : decode cX1_gained 55 = .ok (.if_icmp .ne 10, 3) := dk_160 0 10 (dk_at dksX1_gained_2 9 rfl rfl)
theorem dX1_gained_58 : decode cX1_gained 58 = .ok (.iload_n 3, 1) := dk_29 (dk_at dksX1_gained_2 12 rfl rfl)
theorem dX1_gained_59 : decode cX1_gained 59 = .ok (.iconst 1, 1) := dk_4 (dk_at dksX1_gained_2 13 rfl rfl)
theorem dX1_gained_60 : decode cX1_gained 60 = .ok (.iload 4, 2) := dk_21 4 (dk_at dksX1_gained_2 14 rfl rfl)
theorem dX1_gained_62 : decode cX1_gained 62 = .ok (.ishl, 1) := dk_120 (dk_at dksX1_gained_2 16 rfl rfl)
theorem dX1_gained_63 : decode cX1_gained 63 = .ok (.ior, 1) := dk_128 (dk_at dksX1_gained_2 17 rfl rfl)
theorem dX1_gained_64 : decode cX1_gained 64 = .ok (.istore_n 3, 1) := dk_62 (dk_at dksX1_gained_2 18 rfl rfl)
theorem dX1_gained_65 : decode cX1_gained 65 = .ok (.iinc 4 1, 3) := dk_132 4 1 (dk_at dksX1_gained_2 19 rfl rfl)
theorem dX1_gained_68 : decode cX1_gained 68 = .ok (.goto (-48), 3) := dk_167 255 208 (dk_at dksX1_gained_3 0 rfl rfl)
theorem dX1_gained_71 : decode cX1_gained 71 = .ok (.iload_n 3, 1) := dk_29 (dk_at dksX1_gained_3 3 rfl rfl)
theorem dX1_gained_72 : decode cX1_gained 72 = .ok (.ireturn, 1) := dk_172 (dk_at dksX1_gained_3 4 rfl rfl)
abbrev cX1_lies : ByteArray := prog_1_method_21_code
def yX1_lies : MethodName := ⟨RX1, "lies", "(I)I"⟩
def dkwX1_lies_0 : List UInt8 := [42, 27, 3, 17, 23, 106, 182, 0, 131, 42, 180, 0, 25, 182, 0, 91, 27, 182, 1, 56, 172]
abbrev dktX1_lies_0 : List UInt8 := dkwX1_lies_0 ++ []
theorem dksX1_lies_0 : cX1_lies.data.toList.drop 0 = dktX1_lies_0 := by decide +kernel
theorem dX1_lies_0 : decode cX1_lies 0 = .ok (.aload_n 0, 1) := dk_42 (dk_at dksX1_lies_0 0 rfl rfl)
theorem dX1_lies_1 : decode cX1_lies 1 = .ok (.iload_n 1, 1) := dk_27 (dk_at dksX1_lies_0 1 rfl rfl)
theorem dX1_lies_2 : decode cX1_lies 2 = .ok (.iconst 0, 1) := dk_3 (dk_at dksX1_lies_0 2 rfl rfl)
theorem dX1_lies_3 : decode cX1_lies 3 = .ok (.sipush 5994, 3) := dk_17 23 106 (dk_at dksX1_lies_0 3 rfl rfl)
theorem dX1_lies_6 : decode cX1_lies 6 = .ok (.invokevirtual 131, 3) := dk_182 0 131 (dk_at dksX1_lies_0 6 rfl rfl)
theorem dX1_lies_9 : decode cX1_lies 9 = .ok (.aload_n 0, 1) := dk_42 (dk_at dksX1_lies_0 9 rfl rfl)
theorem dX1_lies_10 : decode cX1_lies 10 = .ok (.getfield 25, 3) := dk_180 0 25 (dk_at dksX1_lies_0 10 rfl rfl)
theorem dX1_lies_13 : decode cX1_lies 13 = .ok (.invokevirtual 91, 3) := dk_182 0 91 (dk_at dksX1_lies_0 13 rfl rfl)
theorem dX1_lies_16 : decode cX1_lies 16 = .ok (.iload_n 1, 1) := dk_27 (dk_at dksX1_lies_0 16 rfl rfl)
theorem dX1_lies_17 : decode cX1_lies 17 = .ok (.invokevirtual 312, 3) := dk_182 1 56 (dk_at dksX1_lies_0 17 rfl rfl)
theorem dX1_lies_20 : decode cX1_lies 20 = .ok (.ireturn, 1) := dk_172 (dk_at dksX1_lies_0 20 rfl rfl)
abbrev cX1_swells : ByteArray := prog_1_method_19_code
def yX1_swells : MethodName := ⟨RX1, "swells", "(I)I"⟩
def dkwX1_swells_0 : List UInt8 := [42, 27, 182, 0, 251, 42, 180, 0, 25, 182, 0, 91, 27, 182, 1, 34, 172]
abbrev dktX1_swells_0 : List UInt8 := dkwX1_swells_0 ++ []
theorem dksX1_swells_0 : cX1_swells.data.toList.drop 0 = dktX1_swells_0 := by decide +kernel
theorem dX1_swells_0 : decode cX1_swells 0 = .ok (.aload_n 0, 1) := dk_42 (dk_at dksX1_swells_0 0 rfl rfl)
theorem dX1_swells_1 : decode cX1_swells 1 = .ok (.iload_n 1, 1) := dk_27 (dk_at dksX1_swells_0 1 rfl rfl)
theorem dX1_swells_2 : decode cX1_swells 2 = .ok (.invokevirtual 251, 3) := dk_182 0 251 (dk_at dksX1_swells_0 2 rfl rfl)
theorem dX1_swells_5 : decode cX1_swells 5 = .ok (.aload_n 0, 1) := dk_42 (dk_at dksX1_swells_0 5 rfl rfl)
theorem dX1_swells_6 : decode cX1_swells 6 = .ok (.getfield 25, 3) := dk_180 0 25 (dk_at dksX1_swells_0 6 rfl rfl)
theorem dX1_swells_9 : decode cX1_swells 9 = .ok (.invokevirtual 91, 3) := dk_182 0 91 (dk_at dksX1_swells_0 9 rfl rfl)
theorem dX1_swells_12 : decode cX1_swells 12 = .ok (.iload_n 1, 1) := dk_27 (dk_at dksX1_swells_0 12 rfl rfl)
theorem dX1_swells_13 : decode cX1_swells 13 = .ok (.invokevirtual 290, 3) := dk_182 1 34 (dk_at dksX1_swells_0 13 rfl rfl)
theorem dX1_swells_16 : decode cX1_swells 16 = .ok (.ireturn, 1) := dk_172 (dk_at dksX1_swells_0 16 rfl rfl)
abbrev cX1_sinks : ByteArray := prog_1_method_44_code
def yX1_sinks : MethodName := ⟨RX1, "sinks", "(I)I"⟩
def dkwX1_sinks_1 : List UInt8 := [182, 1, 19, 156, 0, 5, 28, 172, 42, 180, 0, 36, 182, 1, 62, 132, 2, 1, 167, 255, 227, 2, 172]
abbrev dktX1_sinks_1 : List UInt8 := dkwX1_sinks_1 ++ []
def dkwX1_sinks_0 : List UInt8 := [42, 27, 182, 1, 10, 42, 182, 1, 59, 87, 3, 61, 28, 16, 99, 163, 0, 29, 42, 180, 0, 36, 27]
abbrev dktX1_sinks_0 : List UInt8 := dkwX1_sinks_0 ++ dktX1_sinks_1
theorem dksX1_sinks_0 : cX1_sinks.data.toList.drop 0 = dktX1_sinks_0 := by decide +kernel
theorem dksX1_sinks_1 : cX1_sinks.data.toList.drop 23 = dktX1_sinks_1 := dk_seg dksX1_sinks_0 23 rfl rfl
theorem dX1_sinks_0 : decode cX1_sinks 0 = .ok (.aload_n 0, 1) := dk_42 (dk_at dksX1_sinks_0 0 rfl rfl)
theorem dX1_sinks_1 : decode cX1_sinks 1 = .ok (.iload_n 1, 1) := dk_27 (dk_at dksX1_sinks_0 1 rfl rfl)
theorem dX1_sinks_2 : decode cX1_sinks 2 = .ok (.invokevirtual 266, 3) := dk_182 1 10 (dk_at dksX1_sinks_0 2 rfl rfl)
theorem dX1_sinks_5 : decode cX1_sinks 5 = .ok (.aload_n 0, 1) := dk_42 (dk_at dksX1_sinks_0 5 rfl rfl)
theorem dX1_sinks_6 : decode cX1_sinks 6 = .ok (.invokevirtual 315, 3) := dk_182 1 59 (dk_at dksX1_sinks_0 6 rfl rfl)
theorem dX1_sinks_9 : decode cX1_sinks 9 = .ok (.pop, 1) := dk_87 (dk_at dksX1_sinks_0 9 rfl rfl)
theorem dX1_sinks_10 : decode cX1_sinks 10 = .ok (.iconst 0, 1) := dk_3 (dk_at dksX1_sinks_0 10 rfl rfl)
theorem dX1_sinks_11 : decode cX1_sinks 11 = .ok (.istore_n 2, 1) := dk_61 (dk_at dksX1_sinks_0 11 rfl rfl)
theorem dX1_sinks_12 : decode cX1_sinks 12 = .ok (.iload_n 2, 1) := dk_28 (dk_at dksX1_sinks_0 12 rfl rfl)
theorem dX1_sinks_13 : decode cX1_sinks 13 = .ok (.bipush 99, 2) := dk_16 99 (dk_at dksX1_sinks_0 13 rfl rfl)
theorem dX1_sinks_15 : decode cX1_sinks 15 = .ok (.if_icmp .gt 29, 3) := dk_163 0 29 (dk_at dksX1_sinks_0 15 rfl rfl)
theorem dX1_sinks_18 : decode cX1_sinks 18 = .ok (.aload_n 0, 1) := dk_42 (dk_at dksX1_sinks_0 18 rfl rfl)
theorem dX1_sinks_19 : decode cX1_sinks 19 = .ok (.getfield 36, 3) := dk_180 0 36 (dk_at dksX1_sinks_0 19 rfl rfl)
theorem dX1_sinks_22 : decode cX1_sinks 22 = .ok (.iload_n 1, 1) := dk_27 (dk_at dksX1_sinks_0 22 rfl rfl)
theorem dX1_sinks_23 : decode cX1_sinks 23 = .ok (.invokevirtual 275, 3) := dk_182 1 19 (dk_at dksX1_sinks_1 0 rfl rfl)
theorem dX1_sinks_26 : decode cX1_sinks 26 = .ok (.ifCond .ge 5, 3) := dk_156 0 5 (dk_at dksX1_sinks_1 3 rfl rfl)
theorem dX1_sinks_29 : decode cX1_sinks 29 = .ok (.iload_n 2, 1) := dk_28 (dk_at dksX1_sinks_1 6 rfl rfl)
theorem dX1_sinks_30 : decode cX1_sinks 30 = .ok (.ireturn, 1) := dk_172 (dk_at dksX1_sinks_1 7 rfl rfl)
theorem dX1_sinks_31 : decode cX1_sinks 31 = .ok (.aload_n 0, 1) := dk_42 (dk_at dksX1_sinks_1 8 rfl rfl)
theorem dX1_sinks_32 : decode cX1_sinks 32 = .ok (.getfield 36, 3) := dk_180 0 36 (dk_at dksX1_sinks_1 9 rfl rfl)
theorem dX1_sinks_35 : decode cX1_sinks 35 = .ok (.invokevirtual 318, 3) := dk_182 1 62 (dk_at dksX1_sinks_1 12 rfl rfl)
theorem dX1_sinks_38 : decode cX1_sinks 38 = .ok (.iinc 2 1, 3) := dk_132 2 1 (dk_at dksX1_sinks_1 15 rfl rfl)
theorem dX1_sinks_41 : decode cX1_sinks 41 = .ok (.goto (-29), 3) := dk_167 255 227 (dk_at dksX1_sinks_1 18 rfl rfl)
theorem dX1_sinks_44 : decode cX1_sinks 44 = .ok (.iconst (-1), 1) := dk_2 (dk_at dksX1_sinks_1 21 rfl rfl)
theorem dX1_sinks_45 : decode cX1_sinks 45 = .ok (.ireturn, 1) := dk_172 (dk_at dksX1_sinks_1 22 rfl rfl)
abbrev cX1_heads : ByteArray := prog_1_method_45_code
def yX1_heads : MethodName := ⟨RX1, "heads", "(I)I"⟩
def dkwX1_heads_6 : List UInt8 := [167, 255, 127, 28, 172]
abbrev dktX1_heads_6 : List UInt8 := dkwX1_heads_6 ++ []
def dkwX1_heads_5 : List UInt8 := [180, 1, 26, 29, 46, 153, 0, 14, 21, 4, 154, 0, 9, 28, 4, 29, 120, 128, 61, 132, 3, 1]
abbrev dktX1_heads_5 : List UInt8 := dkwX1_heads_5 ++ dktX1_heads_6
def dkwX1_heads_4 : List UInt8 := [27, 154, 0, 18, 42, 180, 0, 83, 180, 1, 26, 29, 46, 154, 0, 29, 167, 0, 20, 42, 180, 0, 83]
abbrev dktX1_heads_4 : List UInt8 := dkwX1_heads_4 ++ dktX1_heads_5
def dkwX1_heads_3 : List UInt8 := [42, 180, 0, 25, 182, 0, 91, 180, 0, 248, 29, 46, 164, 0, 6, 132, 4, 1, 132, 5, 1, 167, 255, 192]
abbrev dktX1_heads_3 : List UInt8 := dkwX1_heads_3 ++ dktX1_heads_4
def dkwX1_heads_2 : List UInt8 := [29, 46, 21, 5, 122, 4, 126, 4, 160, 0, 34, 42, 180, 0, 25, 182, 0, 91, 180, 0, 248, 21, 5, 46]
abbrev dktX1_heads_2 : List UInt8 := dkwX1_heads_2 ++ dktX1_heads_3
def dkwX1_heads_1 : List UInt8 := [54, 4, 3, 54, 5, 21, 5, 42, 180, 0, 83, 180, 0, 112, 162, 0, 58, 42, 180, 0, 83, 180, 1, 26]
abbrev dktX1_heads_1 : List UInt8 := dkwX1_heads_1 ++ dktX1_heads_2
def dkwX1_heads_0 : List UInt8 := [42, 27, 3, 4, 182, 0, 131, 3, 61, 3, 62, 29, 42, 180, 0, 83, 180, 0, 112, 162, 0, 124, 3]
abbrev dktX1_heads_0 : List UInt8 := dkwX1_heads_0 ++ dktX1_heads_1
theorem dksX1_heads_0 : cX1_heads.data.toList.drop 0 = dktX1_heads_0 := by decide +kernel
theorem dksX1_heads_1 : cX1_heads.data.toList.drop 23 = dktX1_heads_1 := dk_seg dksX1_heads_0 23 rfl rfl
theorem dksX1_heads_2 : cX1_heads.data.toList.drop 47 = dktX1_heads_2 := dk_seg dksX1_heads_1 24 rfl rfl
theorem dksX1_heads_3 : cX1_heads.data.toList.drop 71 = dktX1_heads_3 := dk_seg dksX1_heads_2 24 rfl rfl
theorem dksX1_heads_4 : cX1_heads.data.toList.drop 95 = dktX1_heads_4 := dk_seg dksX1_heads_3 24 rfl rfl
theorem dksX1_heads_5 : cX1_heads.data.toList.drop 118 = dktX1_heads_5 := dk_seg dksX1_heads_4 23 rfl rfl
theorem dksX1_heads_6 : cX1_heads.data.toList.drop 140 = dktX1_heads_6 := dk_seg dksX1_heads_5 22 rfl rfl
theorem dX1_heads_0 : decode cX1_heads 0 = .ok (.aload_n 0, 1) := dk_42 (dk_at dksX1_heads_0 0 rfl rfl)
theorem dX1_heads_1 : decode cX1_heads 1 = .ok (.iload_n 1, 1) := dk_27 (dk_at dksX1_heads_0 1 rfl rfl)
theorem dX1_heads_2 : decode cX1_heads 2 = .ok (.iconst 0, 1) := dk_3 (dk_at dksX1_heads_0 2 rfl rfl)
theorem dX1_heads_3 : decode cX1_heads 3 = .ok (.iconst 1, 1) := dk_4 (dk_at dksX1_heads_0 3 rfl rfl)
theorem dX1_heads_4 : decode cX1_heads 4 = .ok (.invokevirtual 131, 3) := dk_182 0 131 (dk_at dksX1_heads_0 4 rfl rfl)
theorem dX1_heads_7 : decode cX1_heads 7 = .ok (.iconst 0, 1) := dk_3 (dk_at dksX1_heads_0 7 rfl rfl)
theorem dX1_heads_8 : decode cX1_heads 8 = .ok (.istore_n 2, 1) := dk_61 (dk_at dksX1_heads_0 8 rfl rfl)
theorem dX1_heads_9 : decode cX1_heads 9 = .ok (.iconst 0, 1) := dk_3 (dk_at dksX1_heads_0 9 rfl rfl)
theorem dX1_heads_10 : decode cX1_heads 10 = .ok (.istore_n 3, 1) := dk_62 (dk_at dksX1_heads_0 10 rfl rfl)
theorem dX1_heads_11 : decode cX1_heads 11 = .ok (.iload_n 3, 1) := dk_29 (dk_at dksX1_heads_0 11 rfl rfl)
theorem dX1_heads_12 : decode cX1_heads 12 = .ok (.aload_n 0, 1) := dk_42 (dk_at dksX1_heads_0 12 rfl rfl)
theorem dX1_heads_13 : decode cX1_heads 13 = .ok (.getfield 83, 3) := dk_180 0 83 (dk_at dksX1_heads_0 13 rfl rfl)
theorem dX1_heads_16 : decode cX1_heads 16 = .ok (.getfield 112, 3) := dk_180 0 112 (dk_at dksX1_heads_0 16 rfl rfl)
theorem dX1_heads_19 : decode cX1_heads 19 = .ok (.if_icmp .ge 124, 3) := dk_162 0 124 (dk_at dksX1_heads_0 19 rfl rfl)
theorem dX1_heads_22 : decode cX1_heads 22 = .ok (.iconst 0, 1) := dk_3 (dk_at dksX1_heads_0 22 rfl rfl)
theorem dX1_heads_23 : decode cX1_heads 23 = .ok (.istore 4, 2) := dk_54 4 (dk_at dksX1_heads_1 0 rfl rfl)
theorem dX1_heads_25 : decode cX1_heads 25 = .ok (.iconst 0, 1) := dk_3 (dk_at dksX1_heads_1 2 rfl rfl)
theorem dX1_heads_26 : decode cX1_heads 26 = .ok (.istore 5, 2) := dk_54 5 (dk_at dksX1_heads_1 3 rfl rfl)
theorem dX1_heads_28 : decode cX1_heads 28 = .ok (.iload 5, 2) := dk_21 5 (dk_at dksX1_heads_1 5 rfl rfl)
theorem dX1_heads_30 : decode cX1_heads 30 = .ok (.aload_n 0, 1) := dk_42 (dk_at dksX1_heads_1 7 rfl rfl)
theorem dX1_heads_31 : decode cX1_heads 31 = .ok (.getfield 83, 3) := dk_180 0 83 (dk_at dksX1_heads_1 8 rfl rfl)
theorem dX1_heads_34 : decode cX1_heads 34 = .ok (.getfield 112, 3) := dk_180 0 112 (dk_at dksX1_heads_1 11 rfl rfl)
theorem dX1_heads_37 : decode cX1_heads 37 = .ok (.if_icmp .ge 58, 3) := dk_162 0 58 (dk_at dksX1_heads_1 14 rfl rfl)
theorem dX1_heads_40 : decode cX1_heads 40 = .ok (.aload_n 0, 1) := dk_42 (dk_at dksX1_heads_1 17 rfl rfl)
theorem dX1_heads_41 : decode cX1_heads 41 = .ok (.getfield 83, 3) := dk_180 0 83 (dk_at dksX1_heads_1 18 rfl rfl)
theorem dX1_heads_44 : decode cX1_heads 44 = .ok (.getfield 282, 3) := dk_180 1 26 (dk_at dksX1_heads_1 21 rfl rfl)
theorem dX1_heads_47 : decode cX1_heads 47 = .ok (.iload_n 3, 1) := dk_29 (dk_at dksX1_heads_2 0 rfl rfl)
theorem dX1_heads_48 : decode cX1_heads 48 = .ok (.iaload, 1) := dk_46 (dk_at dksX1_heads_2 1 rfl rfl)
theorem dX1_heads_49 : decode cX1_heads 49 = .ok (.iload 5, 2) := dk_21 5 (dk_at dksX1_heads_2 2 rfl rfl)
theorem dX1_heads_51 : decode cX1_heads 51 = .ok (.ishr, 1) := dk_122 (dk_at dksX1_heads_2 4 rfl rfl)
theorem dX1_heads_52 : decode cX1_heads 52 = .ok (.iconst 1, 1) := dk_4 (dk_at dksX1_heads_2 5 rfl rfl)
theorem dX1_heads_53 : decode cX1_heads 53 = .ok (.iand, 1) := dk_126 (dk_at dksX1_heads_2 6 rfl rfl)
theorem dX1_heads_54 : decode cX1_heads 54 = .ok (.iconst 1, 1) := dk_4 (dk_at dksX1_heads_2 7 rfl rfl)
theorem dX1_heads_55 : decode cX1_heads 55 = .ok (.if_icmp .ne 34, 3) := dk_160 0 34 (dk_at dksX1_heads_2 8 rfl rfl)
theorem dX1_heads_58 : decode cX1_heads 58 = .ok (.aload_n 0, 1) := dk_42 (dk_at dksX1_heads_2 11 rfl rfl)
theorem dX1_heads_59 : decode cX1_heads 59 = .ok (.getfield 25, 3) := dk_180 0 25 (dk_at dksX1_heads_2 12 rfl rfl)
theorem dX1_heads_62 : decode cX1_heads 62 = .ok (.invokevirtual 91, 3) := dk_182 0 91 (dk_at dksX1_heads_2 15 rfl rfl)
theorem dX1_heads_65 : decode cX1_heads 65 = .ok (.getfield 248, 3) := dk_180 0 248 (dk_at dksX1_heads_2 18 rfl rfl)
theorem dX1_heads_68 : decode cX1_heads 68 = .ok (.iload 5, 2) := dk_21 5 (dk_at dksX1_heads_2 21 rfl rfl)
theorem dX1_heads_70 : decode cX1_heads 70 = .ok (.iaload, 1) := dk_46 (dk_at dksX1_heads_2 23 rfl rfl)
theorem dX1_heads_71 : decode cX1_heads 71 = .ok (.aload_n 0, 1) := dk_42 (dk_at dksX1_heads_3 0 rfl rfl)
theorem dX1_heads_72 : decode cX1_heads 72 = .ok (.getfield 25, 3) := dk_180 0 25 (dk_at dksX1_heads_3 1 rfl rfl)
theorem dX1_heads_75 : decode cX1_heads 75 = .ok (.invokevirtual 91, 3) := dk_182 0 91 (dk_at dksX1_heads_3 4 rfl rfl)
theorem dX1_heads_78 : decode cX1_heads 78 = .ok (.getfield 248, 3) := dk_180 0 248 (dk_at dksX1_heads_3 7 rfl rfl)
theorem dX1_heads_81 : decode cX1_heads 81 = .ok (.iload_n 3, 1) := dk_29 (dk_at dksX1_heads_3 10 rfl rfl)
theorem dX1_heads_82 : decode cX1_heads 82 = .ok (.iaload, 1) := dk_46 (dk_at dksX1_heads_3 11 rfl rfl)
theorem dX1_heads_83 : decode cX1_heads 83 = .ok (.if_icmp .le 6, 3) := dk_164 0 6 (dk_at dksX1_heads_3 12 rfl rfl)
theorem dX1_heads_86 : decode cX1_heads 86 = .ok (.iinc 4 1, 3) := dk_132 4 1 (dk_at dksX1_heads_3 15 rfl rfl)
theorem dX1_heads_89 : decode cX1_heads 89 = .ok (.iinc 5 1, 3) := dk_132 5 1 (dk_at dksX1_heads_3 18 rfl rfl)
theorem dX1_heads_92 : decode cX1_heads 92 = .ok (.goto (-64), 3) := dk_167 255 192 (dk_at dksX1_heads_3 21 rfl rfl)
theorem dX1_heads_95 : decode cX1_heads 95 = .ok (.iload_n 1, 1) := dk_27 (dk_at dksX1_heads_4 0 rfl rfl)
theorem dX1_heads_96 : decode cX1_heads 96 = .ok (.ifCond .ne 18, 3) := dk_154 0 18 (dk_at dksX1_heads_4 1 rfl rfl)
theorem dX1_heads_99 : decode cX1_heads 99 = .ok (.aload_n 0, 1) := dk_42 (dk_at dksX1_heads_4 4 rfl rfl)
theorem dX1_heads_100 : decode cX1_heads 100 = .ok (.getfield 83, 3) := dk_180 0 83 (dk_at dksX1_heads_4 5 rfl rfl)
theorem dX1_heads_103 : decode cX1_heads 103 = .ok (.getfield 282, 3) := dk_180 1 26 (dk_at dksX1_heads_4 8 rfl rfl)
theorem dX1_heads_106 : decode cX1_heads 106 = .ok (.iload_n 3, 1) := dk_29 (dk_at dksX1_heads_4 11 rfl rfl)
theorem dX1_heads_107 : decode cX1_heads 107 = .ok (.iaload, 1) := dk_46 (dk_at dksX1_heads_4 12 rfl rfl)
theorem dX1_heads_108 : decode cX1_heads 108 = .ok (.ifCond .ne 29, 3) := dk_154 0 29 (dk_at dksX1_heads_4 13 rfl rfl)
theorem dX1_heads_111 : decode cX1_heads 111 = .ok (.goto 20, 3) := dk_167 0 20 (dk_at dksX1_heads_4 16 rfl rfl)
theorem dX1_heads_114 : decode cX1_heads 114 = .ok (.aload_n 0, 1) := dk_42 (dk_at dksX1_heads_4 19 rfl rfl)
theorem dX1_heads_115 : decode cX1_heads 115 = .ok (.getfield 83, 3) := dk_180 0 83 (dk_at dksX1_heads_4 20 rfl rfl)
theorem dX1_heads_118 : decode cX1_heads 118 = .ok (.getfield 282, 3) := dk_180 1 26 (dk_at dksX1_heads_5 0 rfl rfl)
theorem dX1_heads_121 : decode cX1_heads 121 = .ok (.iload_n 3, 1) := dk_29 (dk_at dksX1_heads_5 3 rfl rfl)
theorem dX1_heads_122 : decode cX1_heads 122 = .ok (.iaload, 1) := dk_46 (dk_at dksX1_heads_5 4 rfl rfl)
theorem dX1_heads_123 : decode cX1_heads 123 = .ok (.ifCond .eq 14, 3) := dk_153 0 14 (dk_at dksX1_heads_5 5 rfl rfl)
theorem dX1_heads_126 : decode cX1_heads 126 = .ok (.iload 4, 2) := dk_21 4 (dk_at dksX1_heads_5 8 rfl rfl)
theorem dX1_heads_128 : decode cX1_heads 128 = .ok (.ifCond .ne 9, 3) := dk_154 0 9 (dk_at dksX1_heads_5 10 rfl rfl)
theorem dX1_heads_131 : decode cX1_heads 131 = .ok (.iload_n 2, 1) := dk_28 (dk_at dksX1_heads_5 13 rfl rfl)
theorem dX1_heads_132 : decode cX1_heads 132 = .ok (.iconst 1, 1) := dk_4 (dk_at dksX1_heads_5 14 rfl rfl)
theorem dX1_heads_133 : decode cX1_heads 133 = .ok (.iload_n 3, 1) := dk_29 (dk_at dksX1_heads_5 15 rfl rfl)
theorem dX1_heads_134 : decode cX1_heads 134 = .ok (.ishl, 1) := dk_120 (dk_at dksX1_heads_5 16 rfl rfl)
theorem dX1_heads_135 : decode cX1_heads 135 = .ok (.ior, 1) := dk_128 (dk_at dksX1_heads_5 17 rfl rfl)
theorem dX1_heads_136 : decode cX1_heads 136 = .ok (.istore_n 2, 1) := dk_61 (dk_at dksX1_heads_5 18 rfl rfl)
theorem dX1_heads_137 : decode cX1_heads 137 = .ok (.iinc 3 1, 3) := dk_132 3 1 (dk_at dksX1_heads_5 19 rfl rfl)
theorem dX1_heads_140 : decode cX1_heads 140 = .ok (.goto (-129), 3) := dk_167 255 127 (dk_at dksX1_heads_6 0 rfl rfl)
theorem dX1_heads_143 : decode cX1_heads 143 = .ok (.iload_n 2, 1) := dk_28 (dk_at dksX1_heads_6 3 rfl rfl)
theorem dX1_heads_144 : decode cX1_heads 144 = .ok (.ireturn, 1) := dk_172 (dk_at dksX1_heads_6 4 rfl rfl)
abbrev cX1_driest : ByteArray := prog_1_method_46_code
def yX1_driest : MethodName := ⟨RX1, "driest", "(I)I"⟩
def dkwX1_driest_2 : List UInt8 := [154, 0, 7, 28, 167, 0, 12, 42, 180, 0, 83, 180, 1, 113, 28, 46, 172]
abbrev dktX1_driest_2 : List UInt8 := dkwX1_driest_2 ++ []
def dkwX1_driest_1 : List UInt8 := [29, 46, 42, 180, 0, 83, 180, 1, 113, 28, 46, 162, 0, 5, 29, 61, 132, 3, 1, 167, 255, 224, 27]
abbrev dktX1_driest_1 : List UInt8 := dkwX1_driest_1 ++ dktX1_driest_2
def dkwX1_driest_0 : List UInt8 := [42, 27, 3, 4, 182, 0, 131, 3, 61, 4, 62, 29, 16, 12, 162, 0, 32, 42, 180, 0, 83, 180, 1, 113]
abbrev dktX1_driest_0 : List UInt8 := dkwX1_driest_0 ++ dktX1_driest_1
theorem dksX1_driest_0 : cX1_driest.data.toList.drop 0 = dktX1_driest_0 := by decide +kernel
theorem dksX1_driest_1 : cX1_driest.data.toList.drop 24 = dktX1_driest_1 := dk_seg dksX1_driest_0 24 rfl rfl
theorem dksX1_driest_2 : cX1_driest.data.toList.drop 47 = dktX1_driest_2 := dk_seg dksX1_driest_1 23 rfl rfl
theorem dX1_driest_0 : decode cX1_driest 0 = .ok (.aload_n 0, 1) := dk_42 (dk_at dksX1_driest_0 0 rfl rfl)
theorem dX1_driest_1 : decode cX1_driest 1 = .ok (.iload_n 1, 1) := dk_27 (dk_at dksX1_driest_0 1 rfl rfl)
theorem dX1_driest_2 : decode cX1_driest 2 = .ok (.iconst 0, 1) := dk_3 (dk_at dksX1_driest_0 2 rfl rfl)
theorem dX1_driest_3 : decode cX1_driest 3 = .ok (.iconst 1, 1) := dk_4 (dk_at dksX1_driest_0 3 rfl rfl)
theorem dX1_driest_4 : decode cX1_driest 4 = .ok (.invokevirtual 131, 3) := dk_182 0 131 (dk_at dksX1_driest_0 4 rfl rfl)
theorem dX1_driest_7 : decode cX1_driest 7 = .ok (.iconst 0, 1) := dk_3 (dk_at dksX1_driest_0 7 rfl rfl)
theorem dX1_driest_8 : decode cX1_driest 8 = .ok (.istore_n 2, 1) := dk_61 (dk_at dksX1_driest_0 8 rfl rfl)
theorem dX1_driest_9 : decode cX1_driest 9 = .ok (.iconst 1, 1) := dk_4 (dk_at dksX1_driest_0 9 rfl rfl)
theorem dX1_driest_10 : decode cX1_driest 10 = .ok (.istore_n 3, 1) := dk_62 (dk_at dksX1_driest_0 10 rfl rfl)
theorem dX1_driest_11 : decode cX1_driest 11 = .ok (.iload_n 3, 1) := dk_29 (dk_at dksX1_driest_0 11 rfl rfl)
theorem dX1_driest_12 : decode cX1_driest 12 = .ok (.bipush 12, 2) := dk_16 12 (dk_at dksX1_driest_0 12 rfl rfl)
theorem dX1_driest_14 : decode cX1_driest 14 = .ok (.if_icmp .ge 32, 3) := dk_162 0 32 (dk_at dksX1_driest_0 14 rfl rfl)
theorem dX1_driest_17 : decode cX1_driest 17 = .ok (.aload_n 0, 1) := dk_42 (dk_at dksX1_driest_0 17 rfl rfl)
theorem dX1_driest_18 : decode cX1_driest 18 = .ok (.getfield 83, 3) := dk_180 0 83 (dk_at dksX1_driest_0 18 rfl rfl)
theorem dX1_driest_21 : decode cX1_driest 21 = .ok (.getfield 369, 3) := dk_180 1 113 (dk_at dksX1_driest_0 21 rfl rfl)
theorem dX1_driest_24 : decode cX1_driest 24 = .ok (.iload_n 3, 1) := dk_29 (dk_at dksX1_driest_1 0 rfl rfl)
theorem dX1_driest_25 : decode cX1_driest 25 = .ok (.iaload, 1) := dk_46 (dk_at dksX1_driest_1 1 rfl rfl)
theorem dX1_driest_26 : decode cX1_driest 26 = .ok (.aload_n 0, 1) := dk_42 (dk_at dksX1_driest_1 2 rfl rfl)
theorem dX1_driest_27 : decode cX1_driest 27 = .ok (.getfield 83, 3) := dk_180 0 83 (dk_at dksX1_driest_1 3 rfl rfl)
theorem dX1_driest_30 : decode cX1_driest 30 = .ok (.getfield 369, 3) := dk_180 1 113 (dk_at dksX1_driest_1 6 rfl rfl)
theorem dX1_driest_33 : decode cX1_driest 33 = .ok (.iload_n 2, 1) := dk_28 (dk_at dksX1_driest_1 9 rfl rfl)
theorem dX1_driest_34 : decode cX1_driest 34 = .ok (.iaload, 1) := dk_46 (dk_at dksX1_driest_1 10 rfl rfl)
theorem dX1_driest_35 : decode cX1_driest 35 = .ok (.if_icmp .ge 5, 3) := dk_162 0 5 (dk_at dksX1_driest_1 11 rfl rfl)
theorem dX1_driest_38 : decode cX1_driest 38 = .ok (.iload_n 3, 1) := dk_29 (dk_at dksX1_driest_1 14 rfl rfl)
theorem dX1_driest_39 : decode cX1_driest 39 = .ok (.istore_n 2, 1) := dk_61 (dk_at dksX1_driest_1 15 rfl rfl)
theorem dX1_driest_40 : decode cX1_driest 40 = .ok (.iinc 3 1, 3) := dk_132 3 1 (dk_at dksX1_driest_1 16 rfl rfl)
theorem dX1_driest_43 : decode cX1_driest 43 = .ok (.goto (-32), 3) := dk_167 255 224 (dk_at dksX1_driest_1 19 rfl rfl)
theorem dX1_driest_46 : decode cX1_driest 46 = .ok (.iload_n 1, 1) := dk_27 (dk_at dksX1_driest_1 22 rfl rfl)
theorem dX1_driest_47 : decode cX1_driest 47 = .ok (.ifCond .ne 7, 3) := dk_154 0 7 (dk_at dksX1_driest_2 0 rfl rfl)
theorem dX1_driest_50 : decode cX1_driest 50 = .ok (.iload_n 2, 1) := dk_28 (dk_at dksX1_driest_2 3 rfl rfl)
theorem dX1_driest_51 : decode cX1_driest 51 = .ok (.goto 12, 3) := dk_167 0 12 (dk_at dksX1_driest_2 4 rfl rfl)
theorem dX1_driest_54 : decode cX1_driest 54 = .ok (.aload_n 0, 1) := dk_42 (dk_at dksX1_driest_2 7 rfl rfl)
theorem dX1_driest_55 : decode cX1_driest 55 = .ok (.getfield 83, 3) := dk_180 0 83 (dk_at dksX1_driest_2 8 rfl rfl)
theorem dX1_driest_58 : decode cX1_driest 58 = .ok (.getfield 369, 3) := dk_180 1 113 (dk_at dksX1_driest_2 11 rfl rfl)
theorem dX1_driest_61 : decode cX1_driest 61 = .ok (.iload_n 2, 1) := dk_28 (dk_at dksX1_driest_2 14 rfl rfl)
theorem dX1_driest_62 : decode cX1_driest 62 = .ok (.iaload, 1) := dk_46 (dk_at dksX1_driest_2 15 rfl rfl)
theorem dX1_driest_63 : decode cX1_driest 63 = .ok (.ireturn, 1) := dk_172 (dk_at dksX1_driest_2 16 rfl rfl)
abbrev cX1_decade : ByteArray := prog_1_method_50_code
def yX1_decade : MethodName := ⟨RX1, "decade", "(IIII)I"⟩
def dkwX1_decade_2 : List UInt8 := [167, 0, 21, 21, 4, 5, 160, 0, 11, 25, 5, 182, 0, 242, 167, 0, 7, 42, 180, 1, 119, 172]
abbrev dktX1_decade_2 : List UInt8 := dkwX1_decade_2 ++ []
def dkwX1_decade_1 : List UInt8 := [21, 4, 154, 0, 11, 25, 5, 182, 0, 230, 167, 0, 35, 21, 4, 4, 160, 0, 11, 25, 5, 182, 1, 65]
abbrev dktX1_decade_1 : List UInt8 := dkwX1_decade_1 ++ dktX1_decade_2
def dkwX1_decade_0 : List UInt8 := [42, 28, 29, 182, 1, 135, 42, 21, 4, 3, 6, 182, 0, 131, 42, 27, 28, 29, 182, 1, 138, 58, 5]
abbrev dktX1_decade_0 : List UInt8 := dkwX1_decade_0 ++ dktX1_decade_1
theorem dksX1_decade_0 : cX1_decade.data.toList.drop 0 = dktX1_decade_0 := by decide +kernel
theorem dksX1_decade_1 : cX1_decade.data.toList.drop 23 = dktX1_decade_1 := dk_seg dksX1_decade_0 23 rfl rfl
theorem dksX1_decade_2 : cX1_decade.data.toList.drop 47 = dktX1_decade_2 := dk_seg dksX1_decade_1 24 rfl rfl
theorem dX1_decade_0 : decode cX1_decade 0 = .ok (.aload_n 0, 1) := dk_42 (dk_at dksX1_decade_0 0 rfl rfl)
theorem dX1_decade_1 : decode cX1_decade 1 = .ok (.iload_n 2, 1) := dk_28 (dk_at dksX1_decade_0 1 rfl rfl)
theorem dX1_decade_2 : decode cX1_decade 2 = .ok (.iload_n 3, 1) := dk_29 (dk_at dksX1_decade_0 2 rfl rfl)
theorem dX1_decade_3 : decode cX1_decade 3 = .ok (.invokevirtual 391, 3) := dk_182 1 135 (dk_at dksX1_decade_0 3 rfl rfl)
theorem dX1_decade_6 : decode cX1_decade 6 = .ok (.aload_n 0, 1) := dk_42 (dk_at dksX1_decade_0 6 rfl rfl)
theorem dX1_decade_7 : decode cX1_decade 7 = .ok (.iload 4, 2) := dk_21 4 (dk_at dksX1_decade_0 7 rfl rfl)
theorem dX1_decade_9 : decode cX1_decade 9 = .ok (.iconst 0, 1) := dk_3 (dk_at dksX1_decade_0 9 rfl rfl)
theorem dX1_decade_10 : decode cX1_decade 10 = .ok (.iconst 3, 1) := dk_6 (dk_at dksX1_decade_0 10 rfl rfl)
theorem dX1_decade_11 : decode cX1_decade 11 = .ok (.invokevirtual 131, 3) := dk_182 0 131 (dk_at dksX1_decade_0 11 rfl rfl)
theorem dX1_decade_14 : decode cX1_decade 14 = .ok (.aload_n 0, 1) := dk_42 (dk_at dksX1_decade_0 14 rfl rfl)
theorem dX1_decade_15 : decode cX1_decade 15 = .ok (.iload_n 1, 1) := dk_27 (dk_at dksX1_decade_0 15 rfl rfl)
theorem dX1_decade_16 : decode cX1_decade 16 = .ok (.iload_n 2, 1) := dk_28 (dk_at dksX1_decade_0 16 rfl rfl)
theorem dX1_decade_17 : decode cX1_decade 17 = .ok (.iload_n 3, 1) := dk_29 (dk_at dksX1_decade_0 17 rfl rfl)
theorem dX1_decade_18 : decode cX1_decade 18 = .ok (.invokevirtual 394, 3) := dk_182 1 138 (dk_at dksX1_decade_0 18 rfl rfl)
theorem dX1_decade_21 : decode cX1_decade 21 = .ok (.astore 5, 2) := dk_58 5 (dk_at dksX1_decade_0 21 rfl rfl)
theorem dX1_decade_23 : decode cX1_decade 23 = .ok (.iload 4, 2) := dk_21 4 (dk_at dksX1_decade_1 0 rfl rfl)
theorem dX1_decade_25 : decode cX1_decade 25 = .ok (.ifCond .ne 11, 3) := dk_154 0 11 (dk_at dksX1_decade_1 2 rfl rfl)
theorem dX1_decade_28 : decode cX1_decade 28 = .ok (.aload 5, 2) := dk_25 5 (dk_at dksX1_decade_1 5 rfl rfl)
theorem dX1_decade_30 : decode cX1_decade 30 = .ok (.invokevirtual 230, 3) := dk_182 0 230 (dk_at dksX1_decade_1 7 rfl rfl)
theorem dX1_decade_33 : decode cX1_decade 33 = .ok (.goto 35, 3) := dk_167 0 35 (dk_at dksX1_decade_1 10 rfl rfl)
theorem dX1_decade_36 : decode cX1_decade 36 = .ok (.iload 4, 2) := dk_21 4 (dk_at dksX1_decade_1 13 rfl rfl)
theorem dX1_decade_38 : decode cX1_decade 38 = .ok (.iconst 1, 1) := dk_4 (dk_at dksX1_decade_1 15 rfl rfl)
theorem dX1_decade_39 : decode cX1_decade 39 = .ok (.if_icmp .ne 11, 3) := dk_160 0 11 (dk_at dksX1_decade_1 16 rfl rfl)
theorem dX1_decade_42 : decode cX1_decade 42 = .ok (.aload 5, 2) := dk_25 5 (dk_at dksX1_decade_1 19 rfl rfl)
theorem dX1_decade_44 : decode cX1_decade 44 = .ok (.invokevirtual 321, 3) := dk_182 1 65 (dk_at dksX1_decade_1 21 rfl rfl)
theorem dX1_decade_47 : decode cX1_decade 47 = .ok (.goto 21, 3) := dk_167 0 21 (dk_at dksX1_decade_2 0 rfl rfl)
theorem dX1_decade_50 : decode cX1_decade 50 = .ok (.iload 4, 2) := dk_21 4 (dk_at dksX1_decade_2 3 rfl rfl)
theorem dX1_decade_52 : decode cX1_decade 52 = .ok (.iconst 2, 1) := dk_5 (dk_at dksX1_decade_2 5 rfl rfl)
theorem dX1_decade_53 : decode cX1_decade 53 = .ok (.if_icmp .ne 11, 3) := dk_160 0 11 (dk_at dksX1_decade_2 6 rfl rfl)
theorem dX1_decade_56 : decode cX1_decade 56 = .ok (.aload 5, 2) := dk_25 5 (dk_at dksX1_decade_2 9 rfl rfl)
theorem dX1_decade_58 : decode cX1_decade 58 = .ok (.invokevirtual 242, 3) := dk_182 0 242 (dk_at dksX1_decade_2 11 rfl rfl)
theorem dX1_decade_61 : decode cX1_decade 61 = .ok (.goto 7, 3) := dk_167 0 7 (dk_at dksX1_decade_2 14 rfl rfl)
theorem dX1_decade_64 : decode cX1_decade 64 = .ok (.aload_n 0, 1) := dk_42 (dk_at dksX1_decade_2 17 rfl rfl)
theorem dX1_decade_65 : decode cX1_decade 65 = .ok (.getfield 375, 3) := dk_180 1 119 (dk_at dksX1_decade_2 18 rfl rfl)
theorem dX1_decade_68 : decode cX1_decade 68 = .ok (.ireturn, 1) := dk_172 (dk_at dksX1_decade_2 21 rfl rfl)
abbrev cX1_decadeOf : ByteArray := prog_1_method_49_code
def yX1_decadeOf : MethodName := ⟨RX1, "decadeOf", "(II)V"⟩
def dkwX1_decadeOf_0 : List UInt8 := [42, 27, 3, 16, 16, 182, 0, 131, 42, 28, 4, 16, 96, 182, 0, 131, 177]
abbrev dktX1_decadeOf_0 : List UInt8 := dkwX1_decadeOf_0 ++ []
theorem dksX1_decadeOf_0 : cX1_decadeOf.data.toList.drop 0 = dktX1_decadeOf_0 := by decide +kernel
theorem dX1_decadeOf_0 : decode cX1_decadeOf 0 = .ok (.aload_n 0, 1) := dk_42 (dk_at dksX1_decadeOf_0 0 rfl rfl)
theorem dX1_decadeOf_1 : decode cX1_decadeOf 1 = .ok (.iload_n 1, 1) := dk_27 (dk_at dksX1_decadeOf_0 1 rfl rfl)
theorem dX1_decadeOf_2 : decode cX1_decadeOf 2 = .ok (.iconst 0, 1) := dk_3 (dk_at dksX1_decadeOf_0 2 rfl rfl)
theorem dX1_decadeOf_3 : decode cX1_decadeOf 3 = .ok (.bipush 16, 2) := dk_16 16 (dk_at dksX1_decadeOf_0 3 rfl rfl)
theorem dX1_decadeOf_5 : decode cX1_decadeOf 5 = .ok (.invokevirtual 131, 3) := dk_182 0 131 (dk_at dksX1_decadeOf_0 5 rfl rfl)
theorem dX1_decadeOf_8 : decode cX1_decadeOf 8 = .ok (.aload_n 0, 1) := dk_42 (dk_at dksX1_decadeOf_0 8 rfl rfl)
theorem dX1_decadeOf_9 : decode cX1_decadeOf 9 = .ok (.iload_n 2, 1) := dk_28 (dk_at dksX1_decadeOf_0 9 rfl rfl)
theorem dX1_decadeOf_10 : decode cX1_decadeOf 10 = .ok (.iconst 1, 1) := dk_4 (dk_at dksX1_decadeOf_0 10 rfl rfl)
theorem dX1_decadeOf_11 : decode cX1_decadeOf 11 = .ok (.bipush 96, 2) := dk_16 96 (dk_at dksX1_decadeOf_0 11 rfl rfl)
theorem dX1_decadeOf_13 : decode cX1_decadeOf 13 = .ok (.invokevirtual 131, 3) := dk_182 0 131 (dk_at dksX1_decadeOf_0 13 rfl rfl)
theorem dX1_decadeOf_16 : decode cX1_decadeOf 16 = .ok (.return_, 1) := dk_177 (dk_at dksX1_decadeOf_0 16 rfl rfl)
abbrev cX1_goes : ByteArray := prog_1_method_48_code
def yX1_goes : MethodName := ⟨RX1, "goes", "(III)LGrowingDoor$State;"⟩
def dkwX1_goes_5 : List UInt8 := [42, 180, 0, 36, 182, 1, 62, 132, 4, 1, 167, 255, 146, 42, 180, 0, 36, 176]
abbrev dktX1_goes_5 : List UInt8 := dkwX1_goes_5 ++ []
def dkwX1_goes_4 : List UInt8 := [42, 16, 16, 182, 1, 122, 28, 162, 0, 17, 42, 180, 0, 36, 42, 16, 10, 182, 1, 122, 182, 1, 132, 87]
abbrev dktX1_goes_4 : List UInt8 := dkwX1_goes_4 ++ dktX1_goes_5
def dkwX1_goes_3 : List UInt8 := [180, 0, 112, 182, 1, 122, 54, 5, 42, 180, 0, 36, 21, 5, 42, 16, 10, 182, 1, 122, 182, 1, 128, 87]
abbrev dktX1_goes_3 : List UInt8 := dkwX1_goes_3 ++ dktX1_goes_4
def dkwX1_goes_2 : List UInt8 := [182, 1, 122, 182, 1, 125, 153, 0, 13, 42, 89, 180, 1, 119, 4, 96, 181, 1, 119, 42, 42, 180, 0, 83]
abbrev dktX1_goes_2 : List UInt8 := dkwX1_goes_2 ++ dktX1_goes_3
def dkwX1_goes_1 : List UInt8 := [42, 180, 0, 83, 180, 0, 112, 158, 0, 87, 42, 180, 0, 36, 42, 42, 180, 0, 83, 180, 0, 112]
abbrev dktX1_goes_1 : List UInt8 := dkwX1_goes_1 ++ dktX1_goes_2
def dkwX1_goes_0 : List UInt8 := [42, 27, 181, 1, 115, 42, 3, 181, 1, 119, 42, 182, 1, 59, 87, 3, 54, 4, 21, 4, 29, 162, 0, 110]
abbrev dktX1_goes_0 : List UInt8 := dkwX1_goes_0 ++ dktX1_goes_1
theorem dksX1_goes_0 : cX1_goes.data.toList.drop 0 = dktX1_goes_0 := by decide +kernel
theorem dksX1_goes_1 : cX1_goes.data.toList.drop 24 = dktX1_goes_1 := dk_seg dksX1_goes_0 24 rfl rfl
theorem dksX1_goes_2 : cX1_goes.data.toList.drop 46 = dktX1_goes_2 := dk_seg dksX1_goes_1 22 rfl rfl
theorem dksX1_goes_3 : cX1_goes.data.toList.drop 70 = dktX1_goes_3 := dk_seg dksX1_goes_2 24 rfl rfl
theorem dksX1_goes_4 : cX1_goes.data.toList.drop 94 = dktX1_goes_4 := dk_seg dksX1_goes_3 24 rfl rfl
theorem dksX1_goes_5 : cX1_goes.data.toList.drop 118 = dktX1_goes_5 := dk_seg dksX1_goes_4 24 rfl rfl
theorem dX1_goes_0 : decode cX1_goes 0 = .ok (.aload_n 0, 1) := dk_42 (dk_at dksX1_goes_0 0 rfl rfl)
theorem dX1_goes_1 : decode cX1_goes 1 = .ok (.iload_n 1, 1) := dk_27 (dk_at dksX1_goes_0 1 rfl rfl)
theorem dX1_goes_2 : decode cX1_goes 2 = .ok (.putfield 371, 3) := dk_181 1 115 (dk_at dksX1_goes_0 2 rfl rfl)
theorem dX1_goes_5 : decode cX1_goes 5 = .ok (.aload_n 0, 1) := dk_42 (dk_at dksX1_goes_0 5 rfl rfl)
theorem dX1_goes_6 : decode cX1_goes 6 = .ok (.iconst 0, 1) := dk_3 (dk_at dksX1_goes_0 6 rfl rfl)
theorem dX1_goes_7 : decode cX1_goes 7 = .ok (.putfield 375, 3) := dk_181 1 119 (dk_at dksX1_goes_0 7 rfl rfl)
theorem dX1_goes_10 : decode cX1_goes 10 = .ok (.aload_n 0, 1) := dk_42 (dk_at dksX1_goes_0 10 rfl rfl)
theorem dX1_goes_11 : decode cX1_goes 11 = .ok (.invokevirtual 315, 3) := dk_182 1 59 (dk_at dksX1_goes_0 11 rfl rfl)
theorem dX1_goes_14 : decode cX1_goes 14 = .ok (.pop, 1) := dk_87 (dk_at dksX1_goes_0 14 rfl rfl)
theorem dX1_goes_15 : decode cX1_goes 15 = .ok (.iconst 0, 1) := dk_3 (dk_at dksX1_goes_0 15 rfl rfl)
theorem dX1_goes_16 : decode cX1_goes 16 = .ok (.istore 4, 2) := dk_54 4 (dk_at dksX1_goes_0 16 rfl rfl)
theorem dX1_goes_18 : decode cX1_goes 18 = .ok (.iload 4, 2) := dk_21 4 (dk_at dksX1_goes_0 18 rfl rfl)
theorem dX1_goes_20 : decode cX1_goes 20 = .ok (.iload_n 3, 1) := dk_29 (dk_at dksX1_goes_0 20 rfl rfl)
theorem dX1_goes_21 : decode cX1_goes 21 = .ok (.if_icmp .ge 110, 3) := dk_162 0 110 (dk_at dksX1_goes_0 21 rfl rfl)
theorem dX1_goes_24 : decode cX1_goes 24 = .ok (.aload_n 0, 1) := dk_42 (dk_at dksX1_goes_1 0 rfl rfl)
theorem dX1_goes_25 : decode cX1_goes 25 = .ok (.getfield 83, 3) := dk_180 0 83 (dk_at dksX1_goes_1 1 rfl rfl)
theorem dX1_goes_28 : decode cX1_goes 28 = .ok (.getfield 112, 3) := dk_180 0 112 (dk_at dksX1_goes_1 4 rfl rfl)
theorem dX1_goes_31 : decode cX1_goes 31 = .ok (.ifCond .le 87, 3) := dk_158 0 87 (dk_at dksX1_goes_1 7 rfl rfl)
theorem dX1_goes_34 : decode cX1_goes 34 = .ok (.aload_n 0, 1) := dk_42 (dk_at dksX1_goes_1 10 rfl rfl)
theorem dX1_goes_35 : decode cX1_goes 35 = .ok (.getfield 36, 3) := dk_180 0 36 (dk_at dksX1_goes_1 11 rfl rfl)
theorem dX1_goes_38 : decode cX1_goes 38 = .ok (.aload_n 0, 1) := dk_42 (dk_at dksX1_goes_1 14 rfl rfl)
theorem dX1_goes_39 : decode cX1_goes 39 = .ok (.aload_n 0, 1) := dk_42 (dk_at dksX1_goes_1 15 rfl rfl)
theorem dX1_goes_40 : decode cX1_goes 40 = .ok (.getfield 83, 3) := dk_180 0 83 (dk_at dksX1_goes_1 16 rfl rfl)
theorem dX1_goes_43 : decode cX1_goes 43 = .ok (.getfield 112, 3) := dk_180 0 112 (dk_at dksX1_goes_1 19 rfl rfl)
theorem dX1_goes_46 : decode cX1_goes 46 = .ok (.invokevirtual 378, 3) := dk_182 1 122 (dk_at dksX1_goes_2 0 rfl rfl)
theorem dX1_goes_49 : decode cX1_goes 49 = .ok (.invokevirtual 381, 3) := dk_182 1 125 (dk_at dksX1_goes_2 3 rfl rfl)
theorem dX1_goes_52 : decode cX1_goes 52 = .ok (.ifCond .eq 13, 3) := dk_153 0 13 (dk_at dksX1_goes_2 6 rfl rfl)
theorem dX1_goes_55 : decode cX1_goes 55 = .ok (.aload_n 0, 1) := dk_42 (dk_at dksX1_goes_2 9 rfl rfl)
theorem dX1_goes_56 : decode cX1_goes 56 = .ok (.dup, 1) := dk_89 (dk_at dksX1_goes_2 10 rfl rfl)
theorem dX1_goes_57 : decode cX1_goes 57 = .ok (.getfield 375, 3) := dk_180 1 119 (dk_at dksX1_goes_2 11 rfl rfl)
theorem dX1_goes_60 : decode cX1_goes 60 = .ok (.iconst 1, 1) := dk_4 (dk_at dksX1_goes_2 14 rfl rfl)
theorem dX1_goes_61 : decode cX1_goes 61 = .ok (.iadd, 1) := dk_96 (dk_at dksX1_goes_2 15 rfl rfl)
theorem dX1_goes_62 : decode cX1_goes 62 = .ok (.putfield 375, 3) := dk_181 1 119 (dk_at dksX1_goes_2 16 rfl rfl)
theorem dX1_goes_65 : decode cX1_goes 65 = .ok (.aload_n 0, 1) := dk_42 (dk_at dksX1_goes_2 19 rfl rfl)
theorem dX1_goes_66 : decode cX1_goes 66 = .ok (.aload_n 0, 1) := dk_42 (dk_at dksX1_goes_2 20 rfl rfl)
theorem dX1_goes_67 : decode cX1_goes 67 = .ok (.getfield 83, 3) := dk_180 0 83 (dk_at dksX1_goes_2 21 rfl rfl)
theorem dX1_goes_70 : decode cX1_goes 70 = .ok (.getfield 112, 3) := dk_180 0 112 (dk_at dksX1_goes_3 0 rfl rfl)
theorem dX1_goes_73 : decode cX1_goes 73 = .ok (.invokevirtual 378, 3) := dk_182 1 122 (dk_at dksX1_goes_3 3 rfl rfl)
theorem dX1_goes_76 : decode cX1_goes 76 = .ok (.istore 5, 2) := dk_54 5 (dk_at dksX1_goes_3 6 rfl rfl)
theorem dX1_goes_78 : decode cX1_goes 78 = .ok (.aload_n 0, 1) := dk_42 (dk_at dksX1_goes_3 8 rfl rfl)
theorem dX1_goes_79 : decode cX1_goes 79 = .ok (.getfield 36, 3) := dk_180 0 36 (dk_at dksX1_goes_3 9 rfl rfl)
theorem dX1_goes_82 : decode cX1_goes 82 = .ok (.iload 5, 2) := dk_21 5 (dk_at dksX1_goes_3 12 rfl rfl)
theorem dX1_goes_84 : decode cX1_goes 84 = .ok (.aload_n 0, 1) := dk_42 (dk_at dksX1_goes_3 14 rfl rfl)
theorem dX1_goes_85 : decode cX1_goes 85 = .ok (.bipush 10, 2) := dk_16 10 (dk_at dksX1_goes_3 15 rfl rfl)
theorem dX1_goes_87 : decode cX1_goes 87 = .ok (.invokevirtual 378, 3) := dk_182 1 122 (dk_at dksX1_goes_3 17 rfl rfl)
theorem dX1_goes_90 : decode cX1_goes 90 = .ok (.invokevirtual 384, 3) := dk_182 1 128 (dk_at dksX1_goes_3 20 rfl rfl)
theorem dX1_goes_93 : decode cX1_goes 93 = .ok (.pop, 1) := dk_87 (dk_at dksX1_goes_3 23 rfl rfl)
theorem dX1_goes_94 : decode cX1_goes 94 = .ok (.aload_n 0, 1) := dk_42 (dk_at dksX1_goes_4 0 rfl rfl)
theorem dX1_goes_95 : decode cX1_goes 95 = .ok (.bipush 16, 2) := dk_16 16 (dk_at dksX1_goes_4 1 rfl rfl)
theorem dX1_goes_97 : decode cX1_goes 97 = .ok (.invokevirtual 378, 3) := dk_182 1 122 (dk_at dksX1_goes_4 3 rfl rfl)
theorem dX1_goes_100 : decode cX1_goes 100 = .ok (.iload_n 2, 1) := dk_28 (dk_at dksX1_goes_4 6 rfl rfl)
theorem dX1_goes_101 : decode cX1_goes 101 = .ok (.if_icmp .ge 17, 3) := dk_162 0 17 (dk_at dksX1_goes_4 7 rfl rfl)
theorem dX1_goes_104 : decode cX1_goes 104 = .ok (.aload_n 0, 1) := dk_42 (dk_at dksX1_goes_4 10 rfl rfl)
theorem dX1_goes_105 : decode cX1_goes 105 = .ok (.getfield 36, 3) := dk_180 0 36 (dk_at dksX1_goes_4 11 rfl rfl)
theorem dX1_goes_108 : decode cX1_goes 108 = .ok (.aload_n 0, 1) := dk_42 (dk_at dksX1_goes_4 14 rfl rfl)
theorem dX1_goes_109 : decode cX1_goes 109 = .ok (.bipush 10, 2) := dk_16 10 (dk_at dksX1_goes_4 15 rfl rfl)
theorem dX1_goes_111 : decode cX1_goes 111 = .ok (.invokevirtual 378, 3) := dk_182 1 122 (dk_at dksX1_goes_4 17 rfl rfl)
theorem dX1_goes_114 : decode cX1_goes 114 = .ok (.invokevirtual 388, 3) := dk_182 1 132 (dk_at dksX1_goes_4 20 rfl rfl)
theorem dX1_goes_117 : decode cX1_goes 117 = .ok (.pop, 1) := dk_87 (dk_at dksX1_goes_4 23 rfl rfl)
theorem dX1_goes_118 : decode cX1_goes 118 = .ok (.aload_n 0, 1) := dk_42 (dk_at dksX1_goes_5 0 rfl rfl)
theorem dX1_goes_119 : decode cX1_goes 119 = .ok (.getfield 36, 3) := dk_180 0 36 (dk_at dksX1_goes_5 1 rfl rfl)
theorem dX1_goes_122 : decode cX1_goes 122 = .ok (.invokevirtual 318, 3) := dk_182 1 62 (dk_at dksX1_goes_5 4 rfl rfl)
theorem dX1_goes_125 : decode cX1_goes 125 = .ok (.iinc 4 1, 3) := dk_132 4 1 (dk_at dksX1_goes_5 7 rfl rfl)
theorem dX1_goes_128 : decode cX1_goes 128 = .ok (.goto (-110), 3) := dk_167 255 146 (dk_at dksX1_goes_5 10 rfl rfl)
theorem dX1_goes_131 : decode cX1_goes 131 = .ok (.aload_n 0, 1) := dk_42 (dk_at dksX1_goes_5 13 rfl rfl)
theorem dX1_goes_132 : decode cX1_goes 132 = .ok (.getfield 36, 3) := dk_180 0 36 (dk_at dksX1_goes_5 14 rfl rfl)
theorem dX1_goes_135 : decode cX1_goes 135 = .ok (.areturn, 1) := dk_176 (dk_at dksX1_goes_5 17 rfl rfl)
abbrev cX1_draw : ByteArray := prog_1_method_47_code
def yX1_draw : MethodName := ⟨RX1, "draw", "(I)I"⟩
def dkwX1_draw_1 : List UInt8 := [17, 127, 255, 126, 27, 112, 172]
abbrev dktX1_draw_1 : List UInt8 := dkwX1_draw_1 ++ []
def dkwX1_draw_0 : List UInt8 := [42, 42, 180, 1, 115, 19, 1, 118, 104, 17, 48, 57, 96, 181, 1, 115, 42, 180, 1, 115, 16, 16, 122]
abbrev dktX1_draw_0 : List UInt8 := dkwX1_draw_0 ++ dktX1_draw_1
theorem dksX1_draw_0 : cX1_draw.data.toList.drop 0 = dktX1_draw_0 := by decide +kernel
theorem dksX1_draw_1 : cX1_draw.data.toList.drop 23 = dktX1_draw_1 := dk_seg dksX1_draw_0 23 rfl rfl
theorem dX1_draw_0 : decode cX1_draw 0 = .ok (.aload_n 0, 1) := dk_42 (dk_at dksX1_draw_0 0 rfl rfl)
theorem dX1_draw_1 : decode cX1_draw 1 = .ok (.aload_n 0, 1) := dk_42 (dk_at dksX1_draw_0 1 rfl rfl)
theorem dX1_draw_2 : decode cX1_draw 2 = .ok (.getfield 371, 3) := dk_180 1 115 (dk_at dksX1_draw_0 2 rfl rfl)
theorem dX1_draw_5 : decode cX1_draw 5 = .ok (.ldc_w 374, 3) := dk_19 1 118 (dk_at dksX1_draw_0 5 rfl rfl)
theorem dX1_draw_8 : decode cX1_draw 8 = .ok (.imul, 1) := dk_104 (dk_at dksX1_draw_0 8 rfl rfl)
theorem dX1_draw_9 : decode cX1_draw 9 = .ok (.sipush 12345, 3) := dk_17 48 57 (dk_at dksX1_draw_0 9 rfl rfl)
theorem dX1_draw_12 : decode cX1_draw 12 = .ok (.iadd, 1) := dk_96 (dk_at dksX1_draw_0 12 rfl rfl)
theorem dX1_draw_13 : decode cX1_draw 13 = .ok (.putfield 371, 3) := dk_181 1 115 (dk_at dksX1_draw_0 13 rfl rfl)
theorem dX1_draw_16 : decode cX1_draw 16 = .ok (.aload_n 0, 1) := dk_42 (dk_at dksX1_draw_0 16 rfl rfl)
theorem dX1_draw_17 : decode cX1_draw 17 = .ok (.getfield 371, 3) := dk_180 1 115 (dk_at dksX1_draw_0 17 rfl rfl)
theorem dX1_draw_20 : decode cX1_draw 20 = .ok (.bipush 16, 2) := dk_16 16 (dk_at dksX1_draw_0 20 rfl rfl)
theorem dX1_draw_22 : decode cX1_draw 22 = .ok (.ishr, 1) := dk_122 (dk_at dksX1_draw_0 22 rfl rfl)
theorem dX1_draw_23 : decode cX1_draw 23 = .ok (.sipush 32767, 3) := dk_17 127 255 (dk_at dksX1_draw_1 0 rfl rfl)
theorem dX1_draw_26 : decode cX1_draw 26 = .ok (.iand, 1) := dk_126 (dk_at dksX1_draw_1 3 rfl rfl)
theorem dX1_draw_27 : decode cX1_draw 27 = .ok (.iload_n 1, 1) := dk_27 (dk_at dksX1_draw_1 4 rfl rfl)
theorem dX1_draw_28 : decode cX1_draw 28 = .ok (.irem, 1) := dk_112 (dk_at dksX1_draw_1 5 rfl rfl)
theorem dX1_draw_29 : decode cX1_draw 29 = .ok (.ireturn, 1) := dk_172 (dk_at dksX1_draw_1 6 rfl rfl)
abbrev cX1_span : ByteArray := prog_1_method_51_code
def yX1_span : MethodName := ⟨RX1, "span", "(IIIIII)I"⟩
def dkwX1_span_6 : List UInt8 := [160, 0, 8, 21, 8, 167, 0, 5, 21, 9, 172]
abbrev dktX1_span_6 : List UInt8 := dkwX1_span_6 ++ []
def dkwX1_span_5 : List UInt8 := [132, 9, 1, 132, 10, 1, 167, 255, 184, 21, 5, 154, 0, 8, 21, 7, 167, 0, 16, 21, 5, 4]
abbrev dktX1_span_5 : List UInt8 := dkwX1_span_5 ++ dktX1_span_6
def dkwX1_span_4 : List UInt8 := [21, 8, 25, 11, 182, 0, 230, 184, 1, 77, 54, 8, 25, 11, 21, 6, 182, 1, 19, 158, 0, 6]
abbrev dktX1_span_4 : List UInt8 := dkwX1_span_4 ++ dktX1_span_5
def dkwX1_span_3 : List UInt8 := [154, 0, 11, 25, 11, 182, 0, 230, 167, 0, 13, 21, 7, 25, 11, 182, 0, 230, 184, 0, 168, 54, 7]
abbrev dktX1_span_3 : List UInt8 := dkwX1_span_3 ++ dktX1_span_4
def dkwX1_span_2 : List UInt8 := [3, 54, 10, 21, 10, 28, 162, 0, 72, 42, 27, 21, 10, 96, 29, 21, 4, 182, 1, 138, 58, 11, 21, 10]
abbrev dktX1_span_2 : List UInt8 := dkwX1_span_2 ++ dktX1_span_3
def dkwX1_span_1 : List UInt8 := [21, 6, 3, 42, 180, 0, 83, 180, 0, 112, 4, 100, 182, 0, 131, 3, 54, 7, 3, 54, 8, 3, 54, 9]
abbrev dktX1_span_1 : List UInt8 := dkwX1_span_1 ++ dktX1_span_2
def dkwX1_span_0 : List UInt8 := [42, 28, 4, 16, 20, 182, 0, 131, 42, 29, 21, 4, 182, 1, 135, 42, 21, 5, 3, 5, 182, 0, 131, 42]
abbrev dktX1_span_0 : List UInt8 := dkwX1_span_0 ++ dktX1_span_1
theorem dksX1_span_0 : cX1_span.data.toList.drop 0 = dktX1_span_0 := by decide +kernel
theorem dksX1_span_1 : cX1_span.data.toList.drop 24 = dktX1_span_1 := dk_seg dksX1_span_0 24 rfl rfl
theorem dksX1_span_2 : cX1_span.data.toList.drop 48 = dktX1_span_2 := dk_seg dksX1_span_1 24 rfl rfl
theorem dksX1_span_3 : cX1_span.data.toList.drop 72 = dktX1_span_3 := dk_seg dksX1_span_2 24 rfl rfl
theorem dksX1_span_4 : cX1_span.data.toList.drop 95 = dktX1_span_4 := dk_seg dksX1_span_3 23 rfl rfl
theorem dksX1_span_5 : cX1_span.data.toList.drop 117 = dktX1_span_5 := dk_seg dksX1_span_4 22 rfl rfl
theorem dksX1_span_6 : cX1_span.data.toList.drop 139 = dktX1_span_6 := dk_seg dksX1_span_5 22 rfl rfl
theorem dX1_span_0 : decode cX1_span 0 = .ok (.aload_n 0, 1) := dk_42 (dk_at dksX1_span_0 0 rfl rfl)
theorem dX1_span_1 : decode cX1_span 1 = .ok (.iload_n 2, 1) := dk_28 (dk_at dksX1_span_0 1 rfl rfl)
theorem dX1_span_2 : decode cX1_span 2 = .ok (.iconst 1, 1) := dk_4 (dk_at dksX1_span_0 2 rfl rfl)
theorem dX1_span_3 : decode cX1_span 3 = .ok (.bipush 20, 2) := dk_16 20 (dk_at dksX1_span_0 3 rfl rfl)
theorem dX1_span_5 : decode cX1_span 5 = .ok (.invokevirtual 131, 3) := dk_182 0 131 (dk_at dksX1_span_0 5 rfl rfl)
theorem dX1_span_8 : decode cX1_span 8 = .ok (.aload_n 0, 1) := dk_42 (dk_at dksX1_span_0 8 rfl rfl)
theorem dX1_span_9 : decode cX1_span 9 = .ok (.iload_n 3, 1) := dk_29 (dk_at dksX1_span_0 9 rfl rfl)
theorem dX1_span_10 : decode cX1_span 10 = .ok (.iload 4, 2) := dk_21 4 (dk_at dksX1_span_0 10 rfl rfl)
theorem dX1_span_12 : decode cX1_span 12 = .ok (.invokevirtual 391, 3) := dk_182 1 135 (dk_at dksX1_span_0 12 rfl rfl)
theorem dX1_span_15 : decode cX1_span 15 = .ok (.aload_n 0, 1) := dk_42 (dk_at dksX1_span_0 15 rfl rfl)
theorem dX1_span_16 : decode cX1_span 16 = .ok (.iload 5, 2) := dk_21 5 (dk_at dksX1_span_0 16 rfl rfl)
theorem dX1_span_18 : decode cX1_span 18 = .ok (.iconst 0, 1) := dk_3 (dk_at dksX1_span_0 18 rfl rfl)
theorem dX1_span_19 : decode cX1_span 19 = .ok (.iconst 2, 1) := dk_5 (dk_at dksX1_span_0 19 rfl rfl)
theorem dX1_span_20 : decode cX1_span 20 = .ok (.invokevirtual 131, 3) := dk_182 0 131 (dk_at dksX1_span_0 20 rfl rfl)
theorem dX1_span_23 : decode cX1_span 23 = .ok (.aload_n 0, 1) := dk_42 (dk_at dksX1_span_0 23 rfl rfl)
theorem dX1_span_24 : decode cX1_span 24 = .ok (.iload 6, 2) := dk_21 6 (dk_at dksX1_span_1 0 rfl rfl)
theorem dX1_span_26 : decode cX1_span 26 = .ok (.iconst 0, 1) := dk_3 (dk_at dksX1_span_1 2 rfl rfl)
theorem dX1_span_27 : decode cX1_span 27 = .ok (.aload_n 0, 1) := dk_42 (dk_at dksX1_span_1 3 rfl rfl)
theorem dX1_span_28 : decode cX1_span 28 = .ok (.getfield 83, 3) := dk_180 0 83 (dk_at dksX1_span_1 4 rfl rfl)
theorem dX1_span_31 : decode cX1_span 31 = .ok (.getfield 112, 3) := dk_180 0 112 (dk_at dksX1_span_1 7 rfl rfl)
theorem dX1_span_34 : decode cX1_span 34 = .ok (.iconst 1, 1) := dk_4 (dk_at dksX1_span_1 10 rfl rfl)
theorem dX1_span_35 : decode cX1_span 35 = .ok (.isub, 1) := dk_100 (dk_at dksX1_span_1 11 rfl rfl)
theorem dX1_span_36 : decode cX1_span 36 = .ok (.invokevirtual 131, 3) := dk_182 0 131 (dk_at dksX1_span_1 12 rfl rfl)
theorem dX1_span_39 : decode cX1_span 39 = .ok (.iconst 0, 1) := dk_3 (dk_at dksX1_span_1 15 rfl rfl)
theorem dX1_span_40 : decode cX1_span 40 = .ok (.istore 7, 2) := dk_54 7 (dk_at dksX1_span_1 16 rfl rfl)
theorem dX1_span_42 : decode cX1_span 42 = .ok (.iconst 0, 1) := dk_3 (dk_at dksX1_span_1 18 rfl rfl)
theorem dX1_span_43 : decode cX1_span 43 = .ok (.istore 8, 2) := dk_54 8 (dk_at dksX1_span_1 19 rfl rfl)
theorem dX1_span_45 : decode cX1_span 45 = .ok (.iconst 0, 1) := dk_3 (dk_at dksX1_span_1 21 rfl rfl)
theorem dX1_span_46 : decode cX1_span 46 = .ok (.istore 9, 2) := dk_54 9 (dk_at dksX1_span_1 22 rfl rfl)
theorem dX1_span_48 : decode cX1_span 48 = .ok (.iconst 0, 1) := dk_3 (dk_at dksX1_span_2 0 rfl rfl)
theorem dX1_span_49 : decode cX1_span 49 = .ok (.istore 10, 2) := dk_54 10 (dk_at dksX1_span_2 1 rfl rfl)
theorem dX1_span_51 : decode cX1_span 51 = .ok (.iload 10, 2) := dk_21 10 (dk_at dksX1_span_2 3 rfl rfl)
theorem dX1_span_53 : decode cX1_span 53 = .ok (.iload_n 2, 1) := dk_28 (dk_at dksX1_span_2 5 rfl rfl)
theorem dX1_span_54 : decode cX1_span 54 = .ok (.if_icmp .ge 72, 3) := dk_162 0 72 (dk_at dksX1_span_2 6 rfl rfl)
theorem dX1_span_57 : decode cX1_span 57 = .ok (.aload_n 0, 1) := dk_42 (dk_at dksX1_span_2 9 rfl rfl)
theorem dX1_span_58 : decode cX1_span 58 = .ok (.iload_n 1, 1) := dk_27 (dk_at dksX1_span_2 10 rfl rfl)
theorem dX1_span_59 : decode cX1_span 59 = .ok (.iload 10, 2) := dk_21 10 (dk_at dksX1_span_2 11 rfl rfl)
theorem dX1_span_61 : decode cX1_span 61 = .ok (.iadd, 1) := dk_96 (dk_at dksX1_span_2 13 rfl rfl)
theorem dX1_span_62 : decode cX1_span 62 = .ok (.iload_n 3, 1) := dk_29 (dk_at dksX1_span_2 14 rfl rfl)
theorem dX1_span_63 : decode cX1_span 63 = .ok (.iload 4, 2) := dk_21 4 (dk_at dksX1_span_2 15 rfl rfl)
theorem dX1_span_65 : decode cX1_span 65 = .ok (.invokevirtual 394, 3) := dk_182 1 138 (dk_at dksX1_span_2 17 rfl rfl)
theorem dX1_span_68 : decode cX1_span 68 = .ok (.astore 11, 2) := dk_58 11 (dk_at dksX1_span_2 20 rfl rfl)
theorem dX1_span_70 : decode cX1_span 70 = .ok (.iload 10, 2) := dk_21 10 (dk_at dksX1_span_2 22 rfl rfl)
theorem dX1_span_72 : decode cX1_span 72 = .ok (.ifCond .ne 11, 3) := dk_154 0 11 (dk_at dksX1_span_3 0 rfl rfl)
theorem dX1_span_75 : decode cX1_span 75 = .ok (.aload 11, 2) := dk_25 11 (dk_at dksX1_span_3 3 rfl rfl)
theorem dX1_span_77 : decode cX1_span 77 = .ok (.invokevirtual 230, 3) := dk_182 0 230 (dk_at dksX1_span_3 5 rfl rfl)
theorem dX1_span_80 : decode cX1_span 80 = .ok (.goto 13, 3) := dk_167 0 13 (dk_at dksX1_span_3 8 rfl rfl)
theorem dX1_span_83 : decode cX1_span 83 = .ok (.iload 7, 2) := dk_21 7 (dk_at dksX1_span_3 11 rfl rfl)
theorem dX1_span_85 : decode cX1_span 85 = .ok (.aload 11, 2) := dk_25 11 (dk_at dksX1_span_3 13 rfl rfl)
theorem dX1_span_87 : decode cX1_span 87 = .ok (.invokevirtual 230, 3) := dk_182 0 230 (dk_at dksX1_span_3 15 rfl rfl)
theorem dX1_span_90 : decode cX1_span 90 = .ok (.invokestatic 168, 3) := dk_184 0 168 (dk_at dksX1_span_3 18 rfl rfl)
theorem dX1_span_93 : decode cX1_span 93 = .ok (.istore 7, 2) := dk_54 7 (dk_at dksX1_span_3 21 rfl rfl)
theorem dX1_span_95 : decode cX1_span 95 = .ok (.iload 8, 2) := dk_21 8 (dk_at dksX1_span_4 0 rfl rfl)
theorem dX1_span_97 : decode cX1_span 97 = .ok (.aload 11, 2) := dk_25 11 (dk_at dksX1_span_4 2 rfl rfl)
theorem dX1_span_99 : decode cX1_span 99 = .ok (.invokevirtual 230, 3) := dk_182 0 230 (dk_at dksX1_span_4 4 rfl rfl)
theorem dX1_span_102 : decode cX1_span 102 = .ok (.invokestatic 333, 3) := dk_184 1 77 (dk_at dksX1_span_4 7 rfl rfl)
theorem dX1_span_105 : decode cX1_span 105 = .ok (.istore 8, 2) := dk_54 8 (dk_at dksX1_span_4 10 rfl rfl)
theorem dX1_span_107 : decode cX1_span 107 = .ok (.aload 11, 2) := dk_25 11 (dk_at dksX1_span_4 12 rfl rfl)
theorem dX1_span_109 : decode cX1_span 109 = .ok (.iload 6, 2) := dk_21 6 (dk_at dksX1_span_4 14 rfl rfl)
theorem dX1_span_111 : decode cX1_span 111 = .ok (.invokevirtual 275, 3) := dk_182 1 19 (dk_at dksX1_span_4 16 rfl rfl)
theorem dX1_span_114 : decode cX1_span 114 = .ok (.ifCond .le 6, 3) := dk_158 0 6 (dk_at dksX1_span_4 19 rfl rfl)
theorem dX1_span_117 : decode cX1_span 117 = .ok (.iinc 9 1, 3) := dk_132 9 1 (dk_at dksX1_span_5 0 rfl rfl)
theorem dX1_span_120 : decode cX1_span 120 = .ok (.iinc 10 1, 3) := dk_132 10 1 (dk_at dksX1_span_5 3 rfl rfl)
theorem dX1_span_123 : decode cX1_span 123 = .ok (.goto (-72), 3) := dk_167 255 184 (dk_at dksX1_span_5 6 rfl rfl)
theorem dX1_span_126 : decode cX1_span 126 = .ok (.iload 5, 2) := dk_21 5 (dk_at dksX1_span_5 9 rfl rfl)
theorem dX1_span_128 : decode cX1_span 128 = .ok (.ifCond .ne 8, 3) := dk_154 0 8 (dk_at dksX1_span_5 11 rfl rfl)
theorem dX1_span_131 : decode cX1_span 131 = .ok (.iload 7, 2) := dk_21 7 (dk_at dksX1_span_5 14 rfl rfl)
theorem dX1_span_133 : decode cX1_span 133 = .ok (.goto 16, 3) := dk_167 0 16 (dk_at dksX1_span_5 16 rfl rfl)
theorem dX1_span_136 : decode cX1_span 136 = .ok (.iload 5, 2) := dk_21 5 (dk_at dksX1_span_5 19 rfl rfl)
theorem dX1_span_138 : decode cX1_span 138 = .ok (.iconst 1, 1) := dk_4 (dk_at dksX1_span_5 21 rfl rfl)
theorem dX1_span_139 : decode cX1_span 139 = .ok (.if_icmp .ne 8, 3) := dk_160 0 8 (dk_at dksX1_span_6 0 rfl rfl)
theorem dX1_span_142 : decode cX1_span 142 = .ok (.iload 8, 2) := dk_21 8 (dk_at dksX1_span_6 3 rfl rfl)
theorem dX1_span_144 : decode cX1_span 144 = .ok (.goto 5, 3) := dk_167 0 5 (dk_at dksX1_span_6 5 rfl rfl)
theorem dX1_span_147 : decode cX1_span 147 = .ok (.iload 9, 2) := dk_21 9 (dk_at dksX1_span_6 8 rfl rfl)
theorem dX1_span_149 : decode cX1_span 149 = .ok (.ireturn, 1) := dk_172 (dk_at dksX1_span_6 10 rfl rfl)
theorem q86 : (Jvm.Cond.initialized "GrowingDoor") ∈ lw_all := lw_g (lw_at lw_m1 1 rfl) rfl
theorem q121 : (Jvm.Cond.instantiable "GrowingDoor" (23 : Nat)) ∈ lw_all := lw_g (lw_at lw_m1 36 rfl) rfl
theorem q123 : (Jvm.Cond.instanceMethod ({ cls := "GrowingDoor", name := "<init>", desc := "()V" } : Jvm.MethodName)) ∈ lw_all := lw_g (lw_at lw_m1 38 rfl) rfl
theorem q124 : (Jvm.Cond.code ({ cls := "GrowingDoor", name := "<init>", desc := "()V" } : Jvm.MethodName) prog_1_method_1_code (1 : Nat) (Option.none : Option Jvm.ClassFile.FieldType)) ∈ lw_all := lw_g (lw_at lw_m1 39 rfl) rfl
theorem q125 : (Jvm.Cond.methodLink "GrowingDoor" (1 : Nat) ({ cls := "java/lang/Object", name := "<init>", desc := "()V" } : Jvm.MethodName)) ∈ lw_all := lw_g (lw_at lw_m1 40 rfl) rfl
theorem q128 : (Jvm.Cond.classLink "GrowingDoor" (13 : Nat) "GrowingDoor$Law") ∈ lw_all := lw_g (lw_at lw_m1 43 rfl) rfl
theorem q130 : (Jvm.Cond.methodLinkNest "GrowingDoor" (15 : Nat) ({ cls := "GrowingDoor$Law", name := "<init>", desc := "()V" } : Jvm.MethodName) "GrowingDoor") ∈ lw_tbl := lw_at lw_m1 45 rfl
theorem q135 : (Jvm.Cond.fieldLinkNest "GrowingDoor" (155 : Nat) "GrowingDoor$Law" "term" "LGrowingDoor$Term;" "GrowingDoor") ∈ lw_tbl := lw_at lw_m1 50 rfl
theorem q140 : (Jvm.Cond.classLink "GrowingDoor" (20 : Nat) "GrowingDoor$Kept") ∈ lw_all := lw_g (lw_at lw_m1 55 rfl) rfl
theorem q142 : (Jvm.Cond.methodLink "GrowingDoor" (22 : Nat) ({ cls := "GrowingDoor$Kept", name := "<init>", desc := "(LGrowingDoor$Law;)V" } : Jvm.MethodName)) ∈ lw_all := lw_g (lw_at lw_m1 57 rfl) rfl
theorem q162 : (Jvm.Cond.fieldLinkNest "GrowingDoor" (293 : Nat) "GrowingDoor$Sight" "food" "I" "GrowingDoor") ∈ lw_tbl := lw_at lw_m1 77 rfl
theorem q165 : (Jvm.Cond.fieldLinkNest "GrowingDoor" (295 : Nat) "GrowingDoor$Sight" "high" "I" "GrowingDoor") ∈ lw_tbl := lw_at lw_m1 80 rfl
theorem q168 : (Jvm.Cond.fieldLinkNest "GrowingDoor" (297 : Nat) "GrowingDoor$Sight" "kin" "I" "GrowingDoor") ∈ lw_tbl := lw_at lw_m1 83 rfl
theorem q171 : (Jvm.Cond.fieldLinkNest "GrowingDoor" (299 : Nat) "GrowingDoor$Sight" "rain" "I" "GrowingDoor") ∈ lw_tbl := lw_at lw_m1 86 rfl
theorem q174 : (Jvm.Cond.fieldLinkNest "GrowingDoor" (301 : Nat) "GrowingDoor$Sight" "gain" "I" "GrowingDoor") ∈ lw_tbl := lw_at lw_m1 89 rfl
theorem q177 : (Jvm.Cond.fieldLinkNest "GrowingDoor" (303 : Nat) "GrowingDoor$Sight" "month" "I" "GrowingDoor") ∈ lw_tbl := lw_at lw_m1 92 rfl
theorem q180 : (Jvm.Cond.fieldLinkNest "GrowingDoor" (304 : Nat) "GrowingDoor$Sight" "door" "I" "GrowingDoor") ∈ lw_tbl := lw_at lw_m1 95 rfl
theorem q183 : (Jvm.Cond.fieldLinkNest "GrowingDoor" (306 : Nat) "GrowingDoor$Sight" "boy" "I" "GrowingDoor") ∈ lw_tbl := lw_at lw_m1 98 rfl
theorem q211 : (Jvm.Cond.fieldLinkNest "GrowingDoor" (255 : Nat) "GrowingDoor$School" "thick" "[I" "GrowingDoor") ∈ lw_tbl := lw_at lw_m1 126 rfl
theorem q215 : (Jvm.Cond.fieldLinkNest "GrowingDoor" (258 : Nat) "GrowingDoor$School" "grows" "[I" "GrowingDoor") ∈ lw_tbl := lw_at lw_m1 130 rfl
theorem q225 : (Jvm.Cond.fieldLinkNest "GrowingDoor" (282 : Nat) "GrowingDoor$School" "kin" "[I" "GrowingDoor") ∈ lw_tbl := lw_at lw_m1 140 rfl
theorem q229 : (Jvm.Cond.fieldLinkNest "GrowingDoor" (369 : Nat) "GrowingDoor$School" "rain" "[I" "GrowingDoor") ∈ lw_tbl := lw_at lw_m1 144 rfl
theorem q231 : (Jvm.Cond.fieldLinkNest "GrowingDoor" (105 : Nat) "GrowingDoor$School" "boards" "I" "GrowingDoor") ∈ lw_tbl := lw_at lw_m1 146 rfl
theorem q238 : (Jvm.Cond.fieldLinkNest "GrowingDoor" (112 : Nat) "GrowingDoor$School" "boys" "I" "GrowingDoor") ∈ lw_tbl := lw_at lw_m1 153 rfl
theorem q257 : (Jvm.Cond.fieldLinkNest "GrowingDoor" (261 : Nat) "GrowingDoor$State" "thick" "[I" "GrowingDoor") ∈ lw_tbl := lw_at lw_m1 172 rfl
theorem q260 : (Jvm.Cond.fieldLinkNest "GrowingDoor" (248 : Nat) "GrowingDoor$State" "high" "[I" "GrowingDoor") ∈ lw_tbl := lw_at lw_m1 175 rfl
theorem q262 : (Jvm.Cond.fieldLinkNest "GrowingDoor" (269 : Nat) "GrowingDoor$State" "food" "[I" "GrowingDoor") ∈ lw_tbl := lw_at lw_m1 177 rfl
theorem q264 : (Jvm.Cond.fieldLinkNest "GrowingDoor" (239 : Nat) "GrowingDoor$State" "on" "[I" "GrowingDoor") ∈ lw_tbl := lw_at lw_m1 179 rfl
theorem q267 : (Jvm.Cond.fieldLinkNest "GrowingDoor" (285 : Nat) "GrowingDoor$State" "cut" "[I" "GrowingDoor") ∈ lw_tbl := lw_at lw_m1 182 rfl
theorem q274 : (Jvm.Cond.fieldLinkNest "GrowingDoor" (227 : Nat) "GrowingDoor$State" "month" "I" "GrowingDoor") ∈ lw_tbl := lw_at lw_m1 189 rfl
theorem q276 : (Jvm.Cond.fieldLinkNest "GrowingDoor" (233 : Nat) "GrowingDoor$State" "oil" "I" "GrowingDoor") ∈ lw_tbl := lw_at lw_m1 191 rfl
theorem q279 : (Jvm.Cond.fieldLinkNest "GrowingDoor" (342 : Nat) "GrowingDoor$State" "always" "I" "GrowingDoor") ∈ lw_tbl := lw_at lw_m1 194 rfl
theorem q311 : (Jvm.Cond.fieldLinkNest "GrowingDoor" (152 : Nat) "GrowingDoor$Kept" "many" "I" "GrowingDoor") ∈ lw_tbl := lw_at lw_m1 226 rfl
theorem q318 : (Jvm.Cond.classLink "GrowingDoor" (33 : Nat) "GrowingDoor$State") ∈ lw_all := lw_g (lw_at lw_m1 233 rfl) rfl
theorem q319 : (Jvm.Cond.methodLink "GrowingDoor" (35 : Nat) ({ cls := "GrowingDoor$State", name := "<init>", desc := "(LGrowingDoor$Law;)V" } : Jvm.MethodName)) ∈ lw_all := lw_g (lw_at lw_m1 234 rfl) rfl
theorem q320 : (Jvm.Cond.classLink "GrowingDoor" (40 : Nat) "GrowingDoor$Mates") ∈ lw_all := lw_g (lw_at lw_m1 235 rfl) rfl
theorem q322 : (Jvm.Cond.methodLinkNest "GrowingDoor" (42 : Nat) ({ cls := "GrowingDoor$Mates", name := "<init>", desc := "()V" } : Jvm.MethodName) "GrowingDoor") ∈ lw_tbl := lw_at lw_m1 237 rfl
theorem q328 : (Jvm.Cond.fieldLinkNest "GrowingDoor" (330 : Nat) "GrowingDoor$Mates" "best" "[I" "GrowingDoor") ∈ lw_tbl := lw_at lw_m2 3 rfl
theorem q331 : (Jvm.Cond.fieldLinkNest "GrowingDoor" (327 : Nat) "GrowingDoor$Mates" "least" "I" "GrowingDoor") ∈ lw_tbl := lw_at lw_m2 6 rfl
theorem q341 : (Jvm.Cond.classLink "GrowingDoor" (47 : Nat) "GrowingDoor$Sight") ∈ lw_all := lw_g (lw_at lw_m2 16 rfl) rfl
theorem q342 : (Jvm.Cond.methodLinkNest "GrowingDoor" (49 : Nat) ({ cls := "GrowingDoor$Sight", name := "<init>", desc := "()V" } : Jvm.MethodName) "GrowingDoor") ∈ lw_tbl := lw_at lw_m2 17 rfl
theorem q343 : (Jvm.Cond.classLink "GrowingDoor" (80 : Nat) "GrowingDoor$School") ∈ lw_all := lw_g (lw_at lw_m2 18 rfl) rfl
theorem q344 : (Jvm.Cond.methodLink "GrowingDoor" (82 : Nat) ({ cls := "GrowingDoor$School", name := "<init>", desc := "()V" } : Jvm.MethodName)) ∈ lw_all := lw_g (lw_at lw_m2 19 rfl) rfl
theorem q345 : (Jvm.Cond.methodLink "GrowingDoor" (91 : Nat) ({ cls := "GrowingDoor$Kept", name := "now", desc := "()LGrowingDoor$State;" } : Jvm.MethodName)) ∈ lw_all := lw_g (lw_at lw_m2 20 rfl) rfl
theorem q349 : (Jvm.Cond.methodLink "GrowingDoor" (95 : Nat) ({ cls := "GrowingDoor$State", name := "begins", desc := "(LGrowingDoor$School;)V" } : Jvm.MethodName)) ∈ lw_all := lw_g (lw_at lw_m2 24 rfl) rfl
theorem q356 : (Jvm.Cond.fieldLink "GrowingDoor" (9 : Nat) "GrowingDoor" "tape" "[B") ∈ lw_all := lw_g (lw_at lw_m2 31 rfl) rfl
theorem q357 : (Jvm.Cond.fieldLink "GrowingDoor" (16 : Nat) "GrowingDoor" "law" "LGrowingDoor$Law;") ∈ lw_all := lw_g (lw_at lw_m2 32 rfl) rfl
theorem q358 : (Jvm.Cond.fieldLink "GrowingDoor" (25 : Nat) "GrowingDoor" "as" "LGrowingDoor$Kept;") ∈ lw_all := lw_g (lw_at lw_m2 33 rfl) rfl
theorem q359 : (Jvm.Cond.fieldLink "GrowingDoor" (29 : Nat) "GrowingDoor" "images" "[LGrowingDoor$Kept;") ∈ lw_all := lw_g (lw_at lw_m2 34 rfl) rfl
theorem q360 : (Jvm.Cond.fieldLink "GrowingDoor" (36 : Nat) "GrowingDoor" "trial" "LGrowingDoor$State;") ∈ lw_all := lw_g (lw_at lw_m2 35 rfl) rfl
theorem q361 : (Jvm.Cond.fieldLink "GrowingDoor" (43 : Nat) "GrowingDoor" "mating" "LGrowingDoor$Mates;") ∈ lw_all := lw_g (lw_at lw_m2 36 rfl) rfl
theorem q362 : (Jvm.Cond.fieldLink "GrowingDoor" (50 : Nat) "GrowingDoor" "sight" "LGrowingDoor$Sight;") ∈ lw_all := lw_g (lw_at lw_m2 37 rfl) rfl
theorem q363 : (Jvm.Cond.fieldLink "GrowingDoor" (54 : Nat) "GrowingDoor" "refused" "[I") ∈ lw_all := lw_g (lw_at lw_m2 38 rfl) rfl
theorem q364 : (Jvm.Cond.fieldLink "GrowingDoor" (58 : Nat) "GrowingDoor" "bookMonth" "[I") ∈ lw_all := lw_g (lw_at lw_m2 39 rfl) rfl
theorem q365 : (Jvm.Cond.fieldLink "GrowingDoor" (61 : Nat) "GrowingDoor" "bookHigh" "[I") ∈ lw_all := lw_g (lw_at lw_m2 40 rfl) rfl
theorem q366 : (Jvm.Cond.fieldLink "GrowingDoor" (64 : Nat) "GrowingDoor" "grown" "[I") ∈ lw_all := lw_g (lw_at lw_m2 41 rfl) rfl
theorem q367 : (Jvm.Cond.fieldLink "GrowingDoor" (67 : Nat) "GrowingDoor" "seen" "[I") ∈ lw_all := lw_g (lw_at lw_m2 42 rfl) rfl
theorem q368 : (Jvm.Cond.fieldLink "GrowingDoor" (70 : Nat) "GrowingDoor" "follows" "[I") ∈ lw_all := lw_g (lw_at lw_m2 43 rfl) rfl
theorem q369 : (Jvm.Cond.fieldLink "GrowingDoor" (73 : Nat) "GrowingDoor" "rungs" "[I") ∈ lw_all := lw_g (lw_at lw_m2 44 rfl) rfl
theorem q370 : (Jvm.Cond.fieldLink "GrowingDoor" (76 : Nat) "GrowingDoor" "level" "[J") ∈ lw_all := lw_g (lw_at lw_m2 45 rfl) rfl
theorem q371 : (Jvm.Cond.fieldLink "GrowingDoor" (83 : Nat) "GrowingDoor" "school" "LGrowingDoor$School;") ∈ lw_all := lw_g (lw_at lw_m2 46 rfl) rfl
theorem q372 : (Jvm.Cond.fieldLink "GrowingDoor" (115 : Nat) "GrowingDoor" "fed" "I") ∈ lw_all := lw_g (lw_at lw_m2 47 rfl) rfl
theorem q373 : (Jvm.Cond.fieldLink "GrowingDoor" (87 : Nat) "GrowingDoor" "place" "I") ∈ lw_all := lw_g (lw_at lw_m2 48 rfl) rfl
theorem q374 : (Jvm.Cond.fieldLink "GrowingDoor" (159 : Nat) "GrowingDoor" "lines" "I") ∈ lw_all := lw_g (lw_at lw_m2 49 rfl) rfl
theorem q375 : (Jvm.Cond.fieldLink "GrowingDoor" (162 : Nat) "GrowingDoor" "refusedSteps" "I") ∈ lw_all := lw_g (lw_at lw_m2 50 rfl) rfl
theorem q376 : (Jvm.Cond.fieldLink "GrowingDoor" (165 : Nat) "GrowingDoor" "kept" "I") ∈ lw_all := lw_g (lw_at lw_m2 51 rfl) rfl
theorem q377 : (Jvm.Cond.fieldLink "GrowingDoor" (371 : Nat) "GrowingDoor" "lots" "I") ∈ lw_all := lw_g (lw_at lw_m2 52 rfl) rfl
theorem q378 : (Jvm.Cond.fieldLink "GrowingDoor" (375 : Nat) "GrowingDoor" "cuts" "I") ∈ lw_all := lw_g (lw_at lw_m2 53 rfl) rfl
theorem q379 : (Jvm.Cond.laysFinal "GrowingDoor" "GrowingDoor" "tape" "[B") ∈ lw_all := lw_g (lw_at lw_m2 54 rfl) rfl
theorem q380 : (Jvm.Cond.soleField "GrowingDoor" "tape") ∈ lw_all := lw_g (lw_at lw_m2 55 rfl) rfl
theorem q381 : (Jvm.Cond.laysFinal "GrowingDoor" "GrowingDoor" "law" "LGrowingDoor$Law;") ∈ lw_all := lw_g (lw_at lw_m2 56 rfl) rfl
theorem q382 : (Jvm.Cond.soleField "GrowingDoor" "law") ∈ lw_all := lw_g (lw_at lw_m2 57 rfl) rfl
theorem q383 : (Jvm.Cond.laysFinal "GrowingDoor" "GrowingDoor" "as" "LGrowingDoor$Kept;") ∈ lw_all := lw_g (lw_at lw_m2 58 rfl) rfl
theorem q384 : (Jvm.Cond.soleField "GrowingDoor" "as") ∈ lw_all := lw_g (lw_at lw_m2 59 rfl) rfl
theorem q385 : (Jvm.Cond.laysFinal "GrowingDoor" "GrowingDoor" "images" "[LGrowingDoor$Kept;") ∈ lw_all := lw_g (lw_at lw_m2 60 rfl) rfl
theorem q386 : (Jvm.Cond.soleField "GrowingDoor" "images") ∈ lw_all := lw_g (lw_at lw_m2 61 rfl) rfl
theorem q387 : (Jvm.Cond.laysFinal "GrowingDoor" "GrowingDoor" "trial" "LGrowingDoor$State;") ∈ lw_all := lw_g (lw_at lw_m2 62 rfl) rfl
theorem q388 : (Jvm.Cond.soleField "GrowingDoor" "trial") ∈ lw_all := lw_g (lw_at lw_m2 63 rfl) rfl
theorem q389 : (Jvm.Cond.laysFinal "GrowingDoor" "GrowingDoor" "mating" "LGrowingDoor$Mates;") ∈ lw_all := lw_g (lw_at lw_m2 64 rfl) rfl
theorem q390 : (Jvm.Cond.soleField "GrowingDoor" "mating") ∈ lw_all := lw_g (lw_at lw_m2 65 rfl) rfl
theorem q391 : (Jvm.Cond.laysFinal "GrowingDoor" "GrowingDoor" "sight" "LGrowingDoor$Sight;") ∈ lw_all := lw_g (lw_at lw_m2 66 rfl) rfl
theorem q392 : (Jvm.Cond.soleField "GrowingDoor" "sight") ∈ lw_all := lw_g (lw_at lw_m2 67 rfl) rfl
theorem q393 : (Jvm.Cond.laysFinal "GrowingDoor" "GrowingDoor" "refused" "[I") ∈ lw_all := lw_g (lw_at lw_m2 68 rfl) rfl
theorem q394 : (Jvm.Cond.soleField "GrowingDoor" "refused") ∈ lw_all := lw_g (lw_at lw_m2 69 rfl) rfl
theorem q395 : (Jvm.Cond.laysFinal "GrowingDoor" "GrowingDoor" "bookMonth" "[I") ∈ lw_all := lw_g (lw_at lw_m2 70 rfl) rfl
theorem q396 : (Jvm.Cond.soleField "GrowingDoor" "bookMonth") ∈ lw_all := lw_g (lw_at lw_m2 71 rfl) rfl
theorem q397 : (Jvm.Cond.laysFinal "GrowingDoor" "GrowingDoor" "bookHigh" "[I") ∈ lw_all := lw_g (lw_at lw_m2 72 rfl) rfl
theorem q398 : (Jvm.Cond.soleField "GrowingDoor" "bookHigh") ∈ lw_all := lw_g (lw_at lw_m2 73 rfl) rfl
theorem q399 : (Jvm.Cond.laysFinal "GrowingDoor" "GrowingDoor" "grown" "[I") ∈ lw_all := lw_g (lw_at lw_m2 74 rfl) rfl
theorem q400 : (Jvm.Cond.soleField "GrowingDoor" "grown") ∈ lw_all := lw_g (lw_at lw_m2 75 rfl) rfl
theorem q401 : (Jvm.Cond.laysFinal "GrowingDoor" "GrowingDoor" "seen" "[I") ∈ lw_all := lw_g (lw_at lw_m2 76 rfl) rfl
theorem q402 : (Jvm.Cond.soleField "GrowingDoor" "seen") ∈ lw_all := lw_g (lw_at lw_m2 77 rfl) rfl
theorem q403 : (Jvm.Cond.laysFinal "GrowingDoor" "GrowingDoor" "follows" "[I") ∈ lw_all := lw_g (lw_at lw_m2 78 rfl) rfl
theorem q404 : (Jvm.Cond.soleField "GrowingDoor" "follows") ∈ lw_all := lw_g (lw_at lw_m2 79 rfl) rfl
theorem q405 : (Jvm.Cond.laysFinal "GrowingDoor" "GrowingDoor" "rungs" "[I") ∈ lw_all := lw_g (lw_at lw_m2 80 rfl) rfl
theorem q406 : (Jvm.Cond.soleField "GrowingDoor" "rungs") ∈ lw_all := lw_g (lw_at lw_m2 81 rfl) rfl
theorem q407 : (Jvm.Cond.laysFinal "GrowingDoor" "GrowingDoor" "level" "[J") ∈ lw_all := lw_g (lw_at lw_m2 82 rfl) rfl
theorem q408 : (Jvm.Cond.soleField "GrowingDoor" "level") ∈ lw_all := lw_g (lw_at lw_m2 83 rfl) rfl
theorem q409 : (Jvm.Cond.lays "GrowingDoor" "GrowingDoor" "school" "LGrowingDoor$School;") ∈ lw_all := lw_g (lw_at lw_m2 84 rfl) rfl
theorem q410 : (Jvm.Cond.soleField "GrowingDoor" "school") ∈ lw_all := lw_g (lw_at lw_m2 85 rfl) rfl
theorem q411 : (Jvm.Cond.lays "GrowingDoor" "GrowingDoor" "fed" "I") ∈ lw_all := lw_g (lw_at lw_m2 86 rfl) rfl
theorem q412 : (Jvm.Cond.soleField "GrowingDoor" "fed") ∈ lw_all := lw_g (lw_at lw_m2 87 rfl) rfl
theorem q413 : (Jvm.Cond.lays "GrowingDoor" "GrowingDoor" "place" "I") ∈ lw_all := lw_g (lw_at lw_m2 88 rfl) rfl
theorem q414 : (Jvm.Cond.soleField "GrowingDoor" "place") ∈ lw_all := lw_g (lw_at lw_m2 89 rfl) rfl
theorem q415 : (Jvm.Cond.lays "GrowingDoor" "GrowingDoor" "lines" "I") ∈ lw_all := lw_g (lw_at lw_m2 90 rfl) rfl
theorem q416 : (Jvm.Cond.soleField "GrowingDoor" "lines") ∈ lw_all := lw_g (lw_at lw_m2 91 rfl) rfl
theorem q417 : (Jvm.Cond.lays "GrowingDoor" "GrowingDoor" "refusedSteps" "I") ∈ lw_all := lw_g (lw_at lw_m2 92 rfl) rfl
theorem q418 : (Jvm.Cond.soleField "GrowingDoor" "refusedSteps") ∈ lw_all := lw_g (lw_at lw_m2 93 rfl) rfl
theorem q419 : (Jvm.Cond.lays "GrowingDoor" "GrowingDoor" "kept" "I") ∈ lw_all := lw_g (lw_at lw_m2 94 rfl) rfl
theorem q420 : (Jvm.Cond.soleField "GrowingDoor" "kept") ∈ lw_all := lw_g (lw_at lw_m2 95 rfl) rfl
theorem q421 : (Jvm.Cond.lays "GrowingDoor" "GrowingDoor" "lots" "I") ∈ lw_all := lw_g (lw_at lw_m2 96 rfl) rfl
theorem q422 : (Jvm.Cond.soleField "GrowingDoor" "lots") ∈ lw_all := lw_g (lw_at lw_m2 97 rfl) rfl
theorem q423 : (Jvm.Cond.lays "GrowingDoor" "GrowingDoor" "cuts" "I") ∈ lw_all := lw_g (lw_at lw_m2 98 rfl) rfl
theorem q424 : (Jvm.Cond.soleField "GrowingDoor" "cuts") ∈ lw_all := lw_g (lw_at lw_m2 99 rfl) rfl
theorem q425 : (Jvm.Cond.superclass "GrowingDoor" "java/lang/Object") ∈ lw_all := lw_g (lw_at lw_m2 100 rfl) rfl
theorem q428 : (Jvm.Cond.instanceMethod ({ cls := "GrowingDoor", name := "feed", desc := "(IIIII)I" } : Jvm.MethodName)) ∈ lw_all := lw_g (lw_at lw_m2 103 rfl) rfl
theorem q429 : (Jvm.Cond.selects "GrowingDoor" ({ cls := "GrowingDoor", name := "feed", desc := "(IIIII)I" } : Jvm.MethodName) ({ cls := "GrowingDoor", name := "feed", desc := "(IIIII)I" } : Jvm.MethodName)) ∈ lw_all := lw_g (lw_at lw_m2 104 rfl) rfl
theorem q430 : (Jvm.Cond.code ({ cls := "GrowingDoor", name := "feed", desc := "(IIIII)I" } : Jvm.MethodName) prog_1_method_6_code (8 : Nat) (Option.some Jvm.ClassFile.FieldType.int)) ∈ lw_all := lw_g (lw_at lw_m2 105 rfl) rfl
theorem q432 : (Jvm.Cond.instanceMethod ({ cls := "GrowingDoor", name := "fault", desc := "()I" } : Jvm.MethodName)) ∈ lw_all := lw_g (lw_at lw_m2 107 rfl) rfl
theorem q433 : (Jvm.Cond.selects "GrowingDoor" ({ cls := "GrowingDoor", name := "fault", desc := "()I" } : Jvm.MethodName) ({ cls := "GrowingDoor", name := "fault", desc := "()I" } : Jvm.MethodName)) ∈ lw_all := lw_g (lw_at lw_m2 108 rfl) rfl
theorem q434 : (Jvm.Cond.code ({ cls := "GrowingDoor", name := "fault", desc := "()I" } : Jvm.MethodName) prog_1_method_13_code (1 : Nat) (Option.some Jvm.ClassFile.FieldType.int)) ∈ lw_all := lw_g (lw_at lw_m2 109 rfl) rfl
theorem q436 : (Jvm.Cond.instanceMethod ({ cls := "GrowingDoor", name := "undo", desc := "()I" } : Jvm.MethodName)) ∈ lw_all := lw_g (lw_at lw_m2 111 rfl) rfl
theorem q437 : (Jvm.Cond.selects "GrowingDoor" ({ cls := "GrowingDoor", name := "undo", desc := "()I" } : Jvm.MethodName) ({ cls := "GrowingDoor", name := "undo", desc := "()I" } : Jvm.MethodName)) ∈ lw_all := lw_g (lw_at lw_m2 112 rfl) rfl
theorem q438 : (Jvm.Cond.code ({ cls := "GrowingDoor", name := "undo", desc := "()I" } : Jvm.MethodName) prog_1_method_14_code (1 : Nat) (Option.some Jvm.ClassFile.FieldType.int)) ∈ lw_all := lw_g (lw_at lw_m2 113 rfl) rfl
theorem q440 : (Jvm.Cond.instanceMethod ({ cls := "GrowingDoor", name := "mates", desc := "()I" } : Jvm.MethodName)) ∈ lw_all := lw_g (lw_at lw_m2 115 rfl) rfl
theorem q441 : (Jvm.Cond.selects "GrowingDoor" ({ cls := "GrowingDoor", name := "mates", desc := "()I" } : Jvm.MethodName) ({ cls := "GrowingDoor", name := "mates", desc := "()I" } : Jvm.MethodName)) ∈ lw_all := lw_g (lw_at lw_m2 116 rfl) rfl
theorem q442 : (Jvm.Cond.code ({ cls := "GrowingDoor", name := "mates", desc := "()I" } : Jvm.MethodName) prog_1_method_26_code (1 : Nat) (Option.some Jvm.ClassFile.FieldType.int)) ∈ lw_all := lw_g (lw_at lw_m2 117 rfl) rfl
theorem q443 : (Jvm.Cond.methodLink "GrowingDoor" (324 : Nat) ({ cls := "GrowingDoor$Mates", name := "finds", desc := "(LGrowingDoor$State;)V" } : Jvm.MethodName)) ∈ lw_all := lw_g (lw_at lw_m2 118 rfl) rfl
theorem q470 : (Jvm.Cond.instanceMethod ({ cls := "GrowingDoor", name := "ladder", desc := "()I" } : Jvm.MethodName)) ∈ lw_all := lw_g (lw_at lw_m2 145 rfl) rfl
theorem q471 : (Jvm.Cond.selects "GrowingDoor" ({ cls := "GrowingDoor", name := "ladder", desc := "()I" } : Jvm.MethodName) ({ cls := "GrowingDoor", name := "ladder", desc := "()I" } : Jvm.MethodName)) ∈ lw_all := lw_g (lw_at lw_m2 146 rfl) rfl
theorem q472 : (Jvm.Cond.code ({ cls := "GrowingDoor", name := "ladder", desc := "()I" } : Jvm.MethodName) prog_1_method_29_code (1 : Nat) (Option.some Jvm.ClassFile.FieldType.int)) ∈ lw_all := lw_g (lw_at lw_m2 147 rfl) rfl
theorem q473 : (Jvm.Cond.methodLink "GrowingDoor" (336 : Nat) ({ cls := "GrowingDoor", name := "climbs", desc := "()I" } : Jvm.MethodName)) ∈ lw_all := lw_g (lw_at lw_m2 148 rfl) rfl
theorem q474 : (Jvm.Cond.privateMethod ({ cls := "GrowingDoor", name := "climbs", desc := "()I" } : Jvm.MethodName)) ∈ lw_tbl := lw_at lw_m2 149 rfl
theorem q475 : (Jvm.Cond.instanceMethod ({ cls := "GrowingDoor", name := "climbs", desc := "()I" } : Jvm.MethodName)) ∈ lw_all := lw_g (lw_at lw_m2 150 rfl) rfl
theorem q476 : (Jvm.Cond.code ({ cls := "GrowingDoor", name := "climbs", desc := "()I" } : Jvm.MethodName) prog_1_method_28_code (6 : Nat) (Option.some Jvm.ClassFile.FieldType.int)) ∈ lw_all := lw_g (lw_at lw_m2 151 rfl) rfl
theorem q477 : (Jvm.Cond.methodLink "GrowingDoor" (333 : Nat) ({ cls := "java/lang/Math", name := "max", desc := "(II)I" } : Jvm.MethodName)) ∈ lw_all := lw_g (lw_at lw_m2 152 rfl) rfl
theorem q481 : (Jvm.Cond.instanceMethod ({ cls := "GrowingDoor", name := "image", desc := "()I" } : Jvm.MethodName)) ∈ lw_all := lw_g (lw_at lw_m2 156 rfl) rfl
theorem q482 : (Jvm.Cond.selects "GrowingDoor" ({ cls := "GrowingDoor", name := "image", desc := "()I" } : Jvm.MethodName) ({ cls := "GrowingDoor", name := "image", desc := "()I" } : Jvm.MethodName)) ∈ lw_all := lw_g (lw_at lw_m2 157 rfl) rfl
theorem q483 : (Jvm.Cond.code ({ cls := "GrowingDoor", name := "image", desc := "()I" } : Jvm.MethodName) prog_1_method_52_code (1 : Nat) (Option.some Jvm.ClassFile.FieldType.int)) ∈ lw_all := lw_g (lw_at lw_m2 158 rfl) rfl
theorem q484 : (Jvm.Cond.methodLink "GrowingDoor" (398 : Nat) ({ cls := "GrowingDoor$Kept", name := "as", desc := "(LGrowingDoor$Kept;)V" } : Jvm.MethodName)) ∈ lw_all := lw_g (lw_at lw_m2 159 rfl) rfl
theorem q493 : (Jvm.Cond.instanceMethod ({ cls := "GrowingDoor", name := "restore", desc := "()I" } : Jvm.MethodName)) ∈ lw_all := lw_g (lw_at lw_m2 168 rfl) rfl
theorem q494 : (Jvm.Cond.selects "GrowingDoor" ({ cls := "GrowingDoor", name := "restore", desc := "()I" } : Jvm.MethodName) ({ cls := "GrowingDoor", name := "restore", desc := "()I" } : Jvm.MethodName)) ∈ lw_all := lw_g (lw_at lw_m2 169 rfl) rfl
theorem q495 : (Jvm.Cond.code ({ cls := "GrowingDoor", name := "restore", desc := "()I" } : Jvm.MethodName) prog_1_method_53_code (1 : Nat) (Option.some Jvm.ClassFile.FieldType.int)) ∈ lw_all := lw_g (lw_at lw_m2 170 rfl) rfl
theorem q497 : (Jvm.Cond.instanceMethod ({ cls := "GrowingDoor", name := "status", desc := "(I)I" } : Jvm.MethodName)) ∈ lw_all := lw_g (lw_at lw_m2 172 rfl) rfl
theorem q498 : (Jvm.Cond.selects "GrowingDoor" ({ cls := "GrowingDoor", name := "status", desc := "(I)I" } : Jvm.MethodName) ({ cls := "GrowingDoor", name := "status", desc := "(I)I" } : Jvm.MethodName)) ∈ lw_all := lw_g (lw_at lw_m2 173 rfl) rfl
theorem q499 : (Jvm.Cond.code ({ cls := "GrowingDoor", name := "status", desc := "(I)I" } : Jvm.MethodName) prog_1_method_54_code (2 : Nat) (Option.some Jvm.ClassFile.FieldType.int)) ∈ lw_all := lw_g (lw_at lw_m2 174 rfl) rfl
theorem q501 : (Jvm.Cond.instanceMethod ({ cls := "GrowingDoor", name := "count", desc := "(I)I" } : Jvm.MethodName)) ∈ lw_all := lw_g (lw_at lw_m2 176 rfl) rfl
theorem q502 : (Jvm.Cond.selects "GrowingDoor" ({ cls := "GrowingDoor", name := "count", desc := "(I)I" } : Jvm.MethodName) ({ cls := "GrowingDoor", name := "count", desc := "(I)I" } : Jvm.MethodName)) ∈ lw_all := lw_g (lw_at lw_m2 177 rfl) rfl
theorem q503 : (Jvm.Cond.code ({ cls := "GrowingDoor", name := "count", desc := "(I)I" } : Jvm.MethodName) prog_1_method_55_code (2 : Nat) (Option.some Jvm.ClassFile.FieldType.int)) ∈ lw_all := lw_g (lw_at lw_m2 178 rfl) rfl
theorem q509 : (Jvm.Cond.instanceMethod ({ cls := "GrowingDoor", name := "school", desc := "(I)I" } : Jvm.MethodName)) ∈ lw_all := lw_g (lw_at lw_m2 184 rfl) rfl
theorem q510 : (Jvm.Cond.selects "GrowingDoor" ({ cls := "GrowingDoor", name := "school", desc := "(I)I" } : Jvm.MethodName) ({ cls := "GrowingDoor", name := "school", desc := "(I)I" } : Jvm.MethodName)) ∈ lw_all := lw_g (lw_at lw_m2 185 rfl) rfl
theorem q511 : (Jvm.Cond.codeWith ({ cls := "GrowingDoor", name := "school", desc := "(I)I" } : Jvm.MethodName) prog_1_method_9_code (3 : Nat) (Option.some Jvm.ClassFile.FieldType.int) [((10 : Nat), (29 : Nat), (32 : Nat), (124 : Nat))]) ∈ lw_all := lw_g (lw_at lw_m2 186 rfl) rfl
theorem q512 : (Jvm.Cond.classLink "GrowingDoor" (124 : Nat) "GrowingDoor$Wrong") ∈ lw_all := lw_g (lw_at lw_m2 187 rfl) rfl
theorem q513 : (Jvm.Cond.methodLink "GrowingDoor" (131 : Nat) ({ cls := "GrowingDoor", name := "within", desc := "(III)V" } : Jvm.MethodName)) ∈ lw_all := lw_g (lw_at lw_m2 188 rfl) rfl
theorem q514 : (Jvm.Cond.privateMethod ({ cls := "GrowingDoor", name := "within", desc := "(III)V" } : Jvm.MethodName)) ∈ lw_tbl := lw_at lw_m2 189 rfl
theorem q515 : (Jvm.Cond.instanceMethod ({ cls := "GrowingDoor", name := "within", desc := "(III)V" } : Jvm.MethodName)) ∈ lw_all := lw_g (lw_at lw_m2 190 rfl) rfl
theorem q516 : (Jvm.Cond.code ({ cls := "GrowingDoor", name := "within", desc := "(III)V" } : Jvm.MethodName) prog_1_method_3_code (4 : Nat) (Option.none : Option Jvm.ClassFile.FieldType)) ∈ lw_all := lw_g (lw_at lw_m2 191 rfl) rfl
theorem q517 : (Jvm.Cond.classLink "GrowingDoor" (102 : Nat) "java/lang/IllegalArgumentException") ∈ lw_all := lw_g (lw_at lw_m2 192 rfl) rfl
theorem q558 : (Jvm.Cond.methodLink "GrowingDoor" (104 : Nat) ({ cls := "java/lang/IllegalArgumentException", name := "<init>", desc := "()V" } : Jvm.MethodName)) ∈ lw_all := lw_g (lw_at lw_m2 233 rfl) rfl
theorem q581 : (Jvm.Cond.classLink "GrowingDoor" (135 : Nat) "GrowingDoor$SchoolReader") ∈ lw_all := lw_g (lw_at lw_m3 16 rfl) rfl
theorem q583 : (Jvm.Cond.methodLink "GrowingDoor" (137 : Nat) ({ cls := "GrowingDoor", name := "reader", desc := "(I)LGrowingDoor$Reader;" } : Jvm.MethodName)) ∈ lw_all := lw_g (lw_at lw_m3 18 rfl) rfl
theorem q584 : (Jvm.Cond.privateMethod ({ cls := "GrowingDoor", name := "reader", desc := "(I)LGrowingDoor$Reader;" } : Jvm.MethodName)) ∈ lw_tbl := lw_at lw_m3 19 rfl
theorem q585 : (Jvm.Cond.instanceMethod ({ cls := "GrowingDoor", name := "reader", desc := "(I)LGrowingDoor$Reader;" } : Jvm.MethodName)) ∈ lw_all := lw_g (lw_at lw_m3 20 rfl) rfl
theorem q586 : (Jvm.Cond.code ({ cls := "GrowingDoor", name := "reader", desc := "(I)LGrowingDoor$Reader;" } : Jvm.MethodName) prog_1_method_7_code (2 : Nat) (Option.some (Jvm.ClassFile.FieldType.object "GrowingDoor$Reader"))) ∈ lw_all := lw_g (lw_at lw_m3 21 rfl) rfl
theorem q587 : (Jvm.Cond.classLink "GrowingDoor" (118 : Nat) "GrowingDoor$Reader") ∈ lw_all := lw_g (lw_at lw_m3 22 rfl) rfl
theorem q589 : (Jvm.Cond.methodLink "GrowingDoor" (120 : Nat) ({ cls := "GrowingDoor$Reader", name := "<init>", desc := "([BI)V" } : Jvm.MethodName)) ∈ lw_all := lw_g (lw_at lw_m3 24 rfl) rfl
theorem q606 : (Jvm.Cond.methodLink "GrowingDoor" (141 : Nat) ({ cls := "GrowingDoor$SchoolReader", name := "<init>", desc := "(LGrowingDoor$Reader;)V" } : Jvm.MethodName)) ∈ lw_all := lw_g (lw_at lw_m3 41 rfl) rfl
theorem q631 : (Jvm.Cond.methodLink "GrowingDoor" (144 : Nat) ({ cls := "GrowingDoor$SchoolReader", name := "reads", desc := "()LGrowingDoor$School;" } : Jvm.MethodName)) ∈ lw_all := lw_g (lw_at lw_m3 66 rfl) rfl
theorem q731 : (Jvm.Cond.fieldLinkNest "GrowingDoor" (128 : Nat) "GrowingDoor$Wrong" "why" "I" "GrowingDoor") ∈ lw_tbl := lw_at lw_m3 166 rfl
theorem q733 : (Jvm.Cond.fieldLinkNest "GrowingDoor" (123 : Nat) "GrowingDoor$Wrong" "where" "I" "GrowingDoor") ∈ lw_tbl := lw_at lw_m3 168 rfl
theorem q769 : (Jvm.Cond.methodLink "GrowingDoor" (148 : Nat) ({ cls := "GrowingDoor", name := "faulty", desc := "(LGrowingDoor$Wrong;)I" } : Jvm.MethodName)) ∈ lw_all := lw_g (lw_at lw_m3 204 rfl) rfl
theorem q770 : (Jvm.Cond.privateMethod ({ cls := "GrowingDoor", name := "faulty", desc := "(LGrowingDoor$Wrong;)I" } : Jvm.MethodName)) ∈ lw_tbl := lw_at lw_m3 205 rfl
theorem q771 : (Jvm.Cond.instanceMethod ({ cls := "GrowingDoor", name := "faulty", desc := "(LGrowingDoor$Wrong;)I" } : Jvm.MethodName)) ∈ lw_all := lw_g (lw_at lw_m3 206 rfl) rfl
theorem q772 : (Jvm.Cond.code ({ cls := "GrowingDoor", name := "faulty", desc := "(LGrowingDoor$Wrong;)I" } : Jvm.MethodName) prog_1_method_8_code (2 : Nat) (Option.some Jvm.ClassFile.FieldType.int)) ∈ lw_all := lw_g (lw_at lw_m3 207 rfl) rfl
theorem q777 : (Jvm.Cond.instanceMethod ({ cls := "GrowingDoor", name := "law", desc := "(I)I" } : Jvm.MethodName)) ∈ lw_all := lw_g (lw_at lw_m3 212 rfl) rfl
theorem q778 : (Jvm.Cond.selects "GrowingDoor" ({ cls := "GrowingDoor", name := "law", desc := "(I)I" } : Jvm.MethodName) ({ cls := "GrowingDoor", name := "law", desc := "(I)I" } : Jvm.MethodName)) ∈ lw_all := lw_g (lw_at lw_m3 213 rfl) rfl
theorem q779 : (Jvm.Cond.codeWith ({ cls := "GrowingDoor", name := "law", desc := "(I)I" } : Jvm.MethodName) prog_1_method_10_code (3 : Nat) (Option.some Jvm.ClassFile.FieldType.int) [((16 : Nat), (38 : Nat), (41 : Nat), (124 : Nat))]) ∈ lw_all := lw_g (lw_at lw_m3 214 rfl) rfl
theorem q780 : (Jvm.Cond.methodLink "GrowingDoor" (168 : Nat) ({ cls := "java/lang/Math", name := "min", desc := "(II)I" } : Jvm.MethodName)) ∈ lw_all := lw_g (lw_at lw_m3 215 rfl) rfl
theorem q781 : (Jvm.Cond.classLink "GrowingDoor" (174 : Nat) "GrowingDoor$LawReader") ∈ lw_all := lw_g (lw_at lw_m3 216 rfl) rfl
theorem q783 : (Jvm.Cond.methodLink "GrowingDoor" (176 : Nat) ({ cls := "GrowingDoor$LawReader", name := "<init>", desc := "(LGrowingDoor$Reader;)V" } : Jvm.MethodName)) ∈ lw_all := lw_g (lw_at lw_m3 218 rfl) rfl
theorem q803 : (Jvm.Cond.methodLink "GrowingDoor" (177 : Nat) ({ cls := "GrowingDoor$LawReader", name := "reads", desc := "()LGrowingDoor$Term;" } : Jvm.MethodName)) ∈ lw_all := lw_g (lw_at lw_m3 238 rfl) rfl
theorem q883 : (Jvm.Cond.instanceMethod ({ cls := "GrowingDoor", name := "work", desc := "(I)I" } : Jvm.MethodName)) ∈ lw_all := lw_g (lw_at lw_m4 78 rfl) rfl
theorem q884 : (Jvm.Cond.selects "GrowingDoor" ({ cls := "GrowingDoor", name := "work", desc := "(I)I" } : Jvm.MethodName) ({ cls := "GrowingDoor", name := "work", desc := "(I)I" } : Jvm.MethodName)) ∈ lw_all := lw_g (lw_at lw_m4 79 rfl) rfl
theorem q885 : (Jvm.Cond.codeWith ({ cls := "GrowingDoor", name := "work", desc := "(I)I" } : Jvm.MethodName) prog_1_method_11_code (5 : Nat) (Option.some Jvm.ClassFile.FieldType.int) [((43 : Nat), (63 : Nat), (66 : Nat), (124 : Nat))]) ∈ lw_all := lw_g (lw_at lw_m4 80 rfl) rfl
theorem q886 : (Jvm.Cond.classLink "GrowingDoor" (180 : Nat) "GrowingDoor$WorkReader") ∈ lw_all := lw_g (lw_at lw_m4 81 rfl) rfl
theorem q888 : (Jvm.Cond.methodLink "GrowingDoor" (182 : Nat) ({ cls := "GrowingDoor$WorkReader", name := "<init>", desc := "(LGrowingDoor$Reader;LGrowingDoor$School;)V" } : Jvm.MethodName)) ∈ lw_all := lw_g (lw_at lw_m4 83 rfl) rfl
theorem q911 : (Jvm.Cond.methodLink "GrowingDoor" (185 : Nat) ({ cls := "GrowingDoor$WorkReader", name := "reads", desc := "()LGrowingDoor$Row;" } : Jvm.MethodName)) ∈ lw_all := lw_g (lw_at lw_m4 106 rfl) rfl
theorem q999 : (Jvm.Cond.classLink "GrowingDoor" (188 : Nat) "GrowingDoor$Run") ∈ lw_all := lw_g (lw_at lw_m4 194 rfl) rfl
theorem q1001 : (Jvm.Cond.methodLink "GrowingDoor" (190 : Nat) ({ cls := "GrowingDoor$State", name := "as", desc := "(LGrowingDoor$State;)LGrowingDoor$State;" } : Jvm.MethodName)) ∈ lw_all := lw_g (lw_at lw_m4 196 rfl) rfl
theorem q1002 : (Jvm.Cond.methodLink "GrowingDoor" (193 : Nat) ({ cls := "GrowingDoor$Run", name := "<init>", desc := "(LGrowingDoor$State;)V" } : Jvm.MethodName)) ∈ lw_all := lw_g (lw_at lw_m4 197 rfl) rfl
theorem q1012 : (Jvm.Cond.fieldLinkNest "GrowingDoor" (204 : Nat) "GrowingDoor$Run" "done" "I" "GrowingDoor") ∈ lw_tbl := lw_at lw_m4 207 rfl
theorem q1014 : (Jvm.Cond.fieldLinkNest "GrowingDoor" (202 : Nat) "GrowingDoor$Run" "refused" "I" "GrowingDoor") ∈ lw_tbl := lw_at lw_m4 209 rfl
theorem q1024 : (Jvm.Cond.methodLink "GrowingDoor" (196 : Nat) ({ cls := "GrowingDoor$Row", name := "acts", desc := "(LGrowingDoor$Run;)V" } : Jvm.MethodName)) ∈ lw_all := lw_g (lw_at lw_m4 219 rfl) rfl
theorem q1161 : (Jvm.Cond.instanceMethod ({ cls := "GrowingDoor", name := "book", desc := "(I)I" } : Jvm.MethodName)) ∈ lw_all := lw_g (lw_at lw_m5 116 rfl) rfl
theorem q1162 : (Jvm.Cond.selects "GrowingDoor" ({ cls := "GrowingDoor", name := "book", desc := "(I)I" } : Jvm.MethodName) ({ cls := "GrowingDoor", name := "book", desc := "(I)I" } : Jvm.MethodName)) ∈ lw_all := lw_g (lw_at lw_m5 117 rfl) rfl
theorem q1163 : (Jvm.Cond.codeWith ({ cls := "GrowingDoor", name := "book", desc := "(I)I" } : Jvm.MethodName) prog_1_method_12_code (9 : Nat) (Option.some Jvm.ClassFile.FieldType.int) [((28 : Nat), (147 : Nat), (150 : Nat), (124 : Nat))]) ∈ lw_all := lw_g (lw_at lw_m5 118 rfl) rfl
theorem q1164 : (Jvm.Cond.methodLink "GrowingDoor" (207 : Nat) ({ cls := "GrowingDoor$Reader", name := "now", desc := "()I" } : Jvm.MethodName)) ∈ lw_all := lw_g (lw_at lw_m5 119 rfl) rfl
theorem q1165 : (Jvm.Cond.methodLink "GrowingDoor" (210 : Nat) ({ cls := "GrowingDoor$Reader", name := "place", desc := "()I" } : Jvm.MethodName)) ∈ lw_all := lw_g (lw_at lw_m5 120 rfl) rfl
theorem q1166 : (Jvm.Cond.methodLink "GrowingDoor" (212 : Nat) ({ cls := "GrowingDoor$Reader", name := "number", desc := "(II)I" } : Jvm.MethodName)) ∈ lw_all := lw_g (lw_at lw_m5 121 rfl) rfl
theorem q1167 : (Jvm.Cond.methodLink "GrowingDoor" (215 : Nat) ({ cls := "GrowingDoor$Wrong", name := "<init>", desc := "(II)V" } : Jvm.MethodName)) ∈ lw_all := lw_g (lw_at lw_m5 122 rfl) rfl
theorem q1168 : (Jvm.Cond.methodLink "GrowingDoor" (217 : Nat) ({ cls := "GrowingDoor$Reader", name := "sign", desc := "(C)V" } : Jvm.MethodName)) ∈ lw_all := lw_g (lw_at lw_m5 123 rfl) rfl
theorem q1169 : (Jvm.Cond.methodLink "GrowingDoor" (221 : Nat) ({ cls := "java/lang/System", name := "arraycopy", desc := "(Ljava/lang/Object;ILjava/lang/Object;II)V" } : Jvm.MethodName)) ∈ lw_all := lw_g (lw_at lw_m5 124 rfl) rfl
theorem q1174 : (Jvm.Cond.instanceMethod ({ cls := "GrowingDoor", name := "told", desc := "(I)I" } : Jvm.MethodName)) ∈ lw_all := lw_g (lw_at lw_m5 129 rfl) rfl
theorem q1175 : (Jvm.Cond.selects "GrowingDoor" ({ cls := "GrowingDoor", name := "told", desc := "(I)I" } : Jvm.MethodName) ({ cls := "GrowingDoor", name := "told", desc := "(I)I" } : Jvm.MethodName)) ∈ lw_all := lw_g (lw_at lw_m5 130 rfl) rfl
theorem q1176 : (Jvm.Cond.code ({ cls := "GrowingDoor", name := "told", desc := "(I)I" } : Jvm.MethodName) prog_1_method_15_code (5 : Nat) (Option.some Jvm.ClassFile.FieldType.int)) ∈ lw_all := lw_g (lw_at lw_m5 131 rfl) rfl
theorem q1177 : (Jvm.Cond.methodLink "GrowingDoor" (230 : Nat) ({ cls := "GrowingDoor$State", name := "door", desc := "()I" } : Jvm.MethodName)) ∈ lw_all := lw_g (lw_at lw_m5 132 rfl) rfl
theorem q1178 : (Jvm.Cond.methodLink "GrowingDoor" (236 : Nat) ({ cls := "GrowingDoor$State", name := "there", desc := "()I" } : Jvm.MethodName)) ∈ lw_all := lw_g (lw_at lw_m5 133 rfl) rfl
theorem q1179 : (Jvm.Cond.methodLink "GrowingDoor" (242 : Nat) ({ cls := "GrowingDoor$State", name := "famous", desc := "()I" } : Jvm.MethodName)) ∈ lw_all := lw_g (lw_at lw_m5 134 rfl) rfl
theorem q1183 : (Jvm.Cond.methodLink "GrowingDoor" (245 : Nat) ({ cls := "GrowingDoor$State", name := "rain", desc := "()I" } : Jvm.MethodName)) ∈ lw_all := lw_g (lw_at lw_m5 138 rfl) rfl
theorem q1189 : (Jvm.Cond.instanceMethod ({ cls := "GrowingDoor", name := "board", desc := "(II)I" } : Jvm.MethodName)) ∈ lw_all := lw_g (lw_at lw_m5 144 rfl) rfl
theorem q1190 : (Jvm.Cond.selects "GrowingDoor" ({ cls := "GrowingDoor", name := "board", desc := "(II)I" } : Jvm.MethodName) ({ cls := "GrowingDoor", name := "board", desc := "(II)I" } : Jvm.MethodName)) ∈ lw_all := lw_g (lw_at lw_m5 145 rfl) rfl
theorem q1191 : (Jvm.Cond.code ({ cls := "GrowingDoor", name := "board", desc := "(II)I" } : Jvm.MethodName) prog_1_method_16_code (6 : Nat) (Option.some Jvm.ClassFile.FieldType.int)) ∈ lw_all := lw_g (lw_at lw_m5 146 rfl) rfl
theorem q1192 : (Jvm.Cond.methodLink "GrowingDoor" (251 : Nat) ({ cls := "GrowingDoor", name := "boardOf", desc := "(I)V" } : Jvm.MethodName)) ∈ lw_all := lw_g (lw_at lw_m5 147 rfl) rfl
theorem q1193 : (Jvm.Cond.privateMethod ({ cls := "GrowingDoor", name := "boardOf", desc := "(I)V" } : Jvm.MethodName)) ∈ lw_tbl := lw_at lw_m5 148 rfl
theorem q1194 : (Jvm.Cond.instanceMethod ({ cls := "GrowingDoor", name := "boardOf", desc := "(I)V" } : Jvm.MethodName)) ∈ lw_all := lw_g (lw_at lw_m5 149 rfl) rfl
theorem q1195 : (Jvm.Cond.code ({ cls := "GrowingDoor", name := "boardOf", desc := "(I)V" } : Jvm.MethodName) prog_1_method_4_code (2 : Nat) (Option.none : Option Jvm.ClassFile.FieldType)) ∈ lw_all := lw_g (lw_at lw_m5 150 rfl) rfl
theorem q1196 : (Jvm.Cond.methodLink "GrowingDoor" (108 : Nat) ({ cls := "GrowingDoor", name := "oneOf", desc := "(II)V" } : Jvm.MethodName)) ∈ lw_all := lw_g (lw_at lw_m5 151 rfl) rfl
theorem q1197 : (Jvm.Cond.privateMethod ({ cls := "GrowingDoor", name := "oneOf", desc := "(II)V" } : Jvm.MethodName)) ∈ lw_tbl := lw_at lw_m5 152 rfl
theorem q1198 : (Jvm.Cond.instanceMethod ({ cls := "GrowingDoor", name := "oneOf", desc := "(II)V" } : Jvm.MethodName)) ∈ lw_all := lw_g (lw_at lw_m5 153 rfl) rfl
theorem q1199 : (Jvm.Cond.code ({ cls := "GrowingDoor", name := "oneOf", desc := "(II)V" } : Jvm.MethodName) prog_1_method_2_code (3 : Nat) (Option.none : Option Jvm.ClassFile.FieldType)) ∈ lw_all := lw_g (lw_at lw_m5 154 rfl) rfl
theorem q1200 : (Jvm.Cond.classLink "GrowingDoor" (99 : Nat) "java/util/NoSuchElementException") ∈ lw_all := lw_g (lw_at lw_m5 155 rfl) rfl
theorem q1209 : (Jvm.Cond.methodLink "GrowingDoor" (101 : Nat) ({ cls := "java/util/NoSuchElementException", name := "<init>", desc := "()V" } : Jvm.MethodName)) ∈ lw_all := lw_g (lw_at lw_m5 164 rfl) rfl
theorem q1215 : (Jvm.Cond.methodLink "GrowingDoor" (262 : Nat) ({ cls := "GrowingDoor$State", name := "begin", desc := "(I)I" } : Jvm.MethodName)) ∈ lw_all := lw_g (lw_at lw_m5 170 rfl) rfl
theorem q1220 : (Jvm.Cond.instanceMethod ({ cls := "GrowingDoor", name := "boy", desc := "(II)I" } : Jvm.MethodName)) ∈ lw_all := lw_g (lw_at lw_m5 175 rfl) rfl
theorem q1221 : (Jvm.Cond.selects "GrowingDoor" ({ cls := "GrowingDoor", name := "boy", desc := "(II)I" } : Jvm.MethodName) ({ cls := "GrowingDoor", name := "boy", desc := "(II)I" } : Jvm.MethodName)) ∈ lw_all := lw_g (lw_at lw_m5 176 rfl) rfl
theorem q1222 : (Jvm.Cond.code ({ cls := "GrowingDoor", name := "boy", desc := "(II)I" } : Jvm.MethodName) prog_1_method_17_code (4 : Nat) (Option.some Jvm.ClassFile.FieldType.int)) ∈ lw_all := lw_g (lw_at lw_m5 177 rfl) rfl
theorem q1223 : (Jvm.Cond.methodLink "GrowingDoor" (266 : Nat) ({ cls := "GrowingDoor", name := "boyOf", desc := "(I)V" } : Jvm.MethodName)) ∈ lw_all := lw_g (lw_at lw_m5 178 rfl) rfl
theorem q1224 : (Jvm.Cond.privateMethod ({ cls := "GrowingDoor", name := "boyOf", desc := "(I)V" } : Jvm.MethodName)) ∈ lw_tbl := lw_at lw_m5 179 rfl
theorem q1225 : (Jvm.Cond.instanceMethod ({ cls := "GrowingDoor", name := "boyOf", desc := "(I)V" } : Jvm.MethodName)) ∈ lw_all := lw_g (lw_at lw_m5 180 rfl) rfl
theorem q1226 : (Jvm.Cond.code ({ cls := "GrowingDoor", name := "boyOf", desc := "(I)V" } : Jvm.MethodName) prog_1_method_5_code (2 : Nat) (Option.none : Option Jvm.ClassFile.FieldType)) ∈ lw_all := lw_g (lw_at lw_m5 181 rfl) rfl
theorem q1227 : (Jvm.Cond.methodLink "GrowingDoor" (272 : Nat) ({ cls := "GrowingDoor$State", name := "isAt", desc := "(I)I" } : Jvm.MethodName)) ∈ lw_all := lw_g (lw_at lw_m5 182 rfl) rfl
theorem q1228 : (Jvm.Cond.methodLink "GrowingDoor" (275 : Nat) ({ cls := "GrowingDoor$State", name := "gain", desc := "(I)I" } : Jvm.MethodName)) ∈ lw_all := lw_g (lw_at lw_m5 183 rfl) rfl
theorem q1229 : (Jvm.Cond.methodLink "GrowingDoor" (278 : Nat) ({ cls := "GrowingDoor$State", name := "isThere", desc := "(I)Z" } : Jvm.MethodName)) ∈ lw_all := lw_g (lw_at lw_m5 184 rfl) rfl
theorem q1234 : (Jvm.Cond.instanceMethod ({ cls := "GrowingDoor", name := "grows", desc := "(I)I" } : Jvm.MethodName)) ∈ lw_all := lw_g (lw_at lw_m5 189 rfl) rfl
theorem q1235 : (Jvm.Cond.selects "GrowingDoor" ({ cls := "GrowingDoor", name := "grows", desc := "(I)I" } : Jvm.MethodName) ({ cls := "GrowingDoor", name := "grows", desc := "(I)I" } : Jvm.MethodName)) ∈ lw_all := lw_g (lw_at lw_m5 190 rfl) rfl
theorem q1236 : (Jvm.Cond.code ({ cls := "GrowingDoor", name := "grows", desc := "(I)I" } : Jvm.MethodName) prog_1_method_18_code (2 : Nat) (Option.some Jvm.ClassFile.FieldType.int)) ∈ lw_all := lw_g (lw_at lw_m5 191 rfl) rfl
theorem q1237 : (Jvm.Cond.methodLink "GrowingDoor" (288 : Nat) ({ cls := "GrowingDoor$State", name := "grows", desc := "(I)I" } : Jvm.MethodName)) ∈ lw_all := lw_g (lw_at lw_m5 192 rfl) rfl
theorem q1242 : (Jvm.Cond.instanceMethod ({ cls := "GrowingDoor", name := "would", desc := "(IIIIIIII)I" } : Jvm.MethodName)) ∈ lw_all := lw_g (lw_at lw_m5 197 rfl) rfl
theorem q1243 : (Jvm.Cond.selects "GrowingDoor" ({ cls := "GrowingDoor", name := "would", desc := "(IIIIIIII)I" } : Jvm.MethodName) ({ cls := "GrowingDoor", name := "would", desc := "(IIIIIIII)I" } : Jvm.MethodName)) ∈ lw_all := lw_g (lw_at lw_m5 198 rfl) rfl
theorem q1244 : (Jvm.Cond.code ({ cls := "GrowingDoor", name := "would", desc := "(IIIIIIII)I" } : Jvm.MethodName) prog_1_method_20_code (9 : Nat) (Option.some Jvm.ClassFile.FieldType.int)) ∈ lw_all := lw_g (lw_at lw_m5 199 rfl) rfl
theorem q1245 : (Jvm.Cond.methodLink "GrowingDoor" (309 : Nat) ({ cls := "GrowingDoor$Law", name := "grows", desc := "(LGrowingDoor$Sight;)I" } : Jvm.MethodName)) ∈ lw_all := lw_g (lw_at lw_m5 200 rfl) rfl
theorem q1250 : (Jvm.Cond.instanceMethod ({ cls := "GrowingDoor", name := "ahead", desc := "(II)I" } : Jvm.MethodName)) ∈ lw_all := lw_g (lw_at lw_m5 205 rfl) rfl
theorem q1251 : (Jvm.Cond.selects "GrowingDoor" ({ cls := "GrowingDoor", name := "ahead", desc := "(II)I" } : Jvm.MethodName) ({ cls := "GrowingDoor", name := "ahead", desc := "(II)I" } : Jvm.MethodName)) ∈ lw_all := lw_g (lw_at lw_m5 206 rfl) rfl
theorem q1252 : (Jvm.Cond.code ({ cls := "GrowingDoor", name := "ahead", desc := "(II)I" } : Jvm.MethodName) prog_1_method_23_code (4 : Nat) (Option.some Jvm.ClassFile.FieldType.int)) ∈ lw_all := lw_g (lw_at lw_m5 207 rfl) rfl
theorem q1253 : (Jvm.Cond.methodLink "GrowingDoor" (315 : Nat) ({ cls := "GrowingDoor", name := "tried", desc := "()LGrowingDoor$State;" } : Jvm.MethodName)) ∈ lw_all := lw_g (lw_at lw_m5 208 rfl) rfl
theorem q1254 : (Jvm.Cond.privateMethod ({ cls := "GrowingDoor", name := "tried", desc := "()LGrowingDoor$State;" } : Jvm.MethodName)) ∈ lw_tbl := lw_at lw_m5 209 rfl
theorem q1255 : (Jvm.Cond.instanceMethod ({ cls := "GrowingDoor", name := "tried", desc := "()LGrowingDoor$State;" } : Jvm.MethodName)) ∈ lw_all := lw_g (lw_at lw_m5 210 rfl) rfl
theorem q1256 : (Jvm.Cond.code ({ cls := "GrowingDoor", name := "tried", desc := "()LGrowingDoor$State;" } : Jvm.MethodName) prog_1_method_22_code (1 : Nat) (Option.some (Jvm.ClassFile.FieldType.object "GrowingDoor$State"))) ∈ lw_all := lw_g (lw_at lw_m5 211 rfl) rfl
theorem q1257 : (Jvm.Cond.methodLink "GrowingDoor" (318 : Nat) ({ cls := "GrowingDoor$State", name := "monthEnds", desc := "()V" } : Jvm.MethodName)) ∈ lw_all := lw_g (lw_at lw_m5 212 rfl) rfl
theorem q1258 : (Jvm.Cond.methodLink "GrowingDoor" (321 : Nat) ({ cls := "GrowingDoor$State", name := "heights", desc := "()I" } : Jvm.MethodName)) ∈ lw_all := lw_g (lw_at lw_m5 213 rfl) rfl
theorem q1266 : (Jvm.Cond.instanceMethod ({ cls := "GrowingDoor", name := "passes", desc := "(II)I" } : Jvm.MethodName)) ∈ lw_all := lw_g (lw_at lw_m5 221 rfl) rfl
theorem q1267 : (Jvm.Cond.selects "GrowingDoor" ({ cls := "GrowingDoor", name := "passes", desc := "(II)I" } : Jvm.MethodName) ({ cls := "GrowingDoor", name := "passes", desc := "(II)I" } : Jvm.MethodName)) ∈ lw_all := lw_g (lw_at lw_m5 222 rfl) rfl
theorem q1268 : (Jvm.Cond.code ({ cls := "GrowingDoor", name := "passes", desc := "(II)I" } : Jvm.MethodName) prog_1_method_24_code (4 : Nat) (Option.some Jvm.ClassFile.FieldType.int)) ∈ lw_all := lw_g (lw_at lw_m5 223 rfl) rfl
theorem q1273 : (Jvm.Cond.instanceMethod ({ cls := "GrowingDoor", name := "feeds", desc := "(II)I" } : Jvm.MethodName)) ∈ lw_all := lw_g (lw_at lw_m5 228 rfl) rfl
theorem q1274 : (Jvm.Cond.selects "GrowingDoor" ({ cls := "GrowingDoor", name := "feeds", desc := "(II)I" } : Jvm.MethodName) ({ cls := "GrowingDoor", name := "feeds", desc := "(II)I" } : Jvm.MethodName)) ∈ lw_all := lw_g (lw_at lw_m5 229 rfl) rfl
theorem q1275 : (Jvm.Cond.code ({ cls := "GrowingDoor", name := "feeds", desc := "(II)I" } : Jvm.MethodName) prog_1_method_25_code (5 : Nat) (Option.some Jvm.ClassFile.FieldType.int)) ∈ lw_all := lw_g (lw_at lw_m5 230 rfl) rfl
theorem q1280 : (Jvm.Cond.instanceMethod ({ cls := "GrowingDoor", name := "mate", desc := "(I)I" } : Jvm.MethodName)) ∈ lw_all := lw_g (lw_at lw_m5 235 rfl) rfl
theorem q1281 : (Jvm.Cond.selects "GrowingDoor" ({ cls := "GrowingDoor", name := "mate", desc := "(I)I" } : Jvm.MethodName) ({ cls := "GrowingDoor", name := "mate", desc := "(I)I" } : Jvm.MethodName)) ∈ lw_all := lw_g (lw_at lw_m5 236 rfl) rfl
theorem q1282 : (Jvm.Cond.code ({ cls := "GrowingDoor", name := "mate", desc := "(I)I" } : Jvm.MethodName) prog_1_method_27_code (2 : Nat) (Option.some Jvm.ClassFile.FieldType.int)) ∈ lw_all := lw_g (lw_at lw_m5 237 rfl) rfl
theorem q1287 : (Jvm.Cond.instanceMethod ({ cls := "GrowingDoor", name := "rung", desc := "(I)I" } : Jvm.MethodName)) ∈ lw_all := lw_g (lw_at lw_m6 2 rfl) rfl
theorem q1288 : (Jvm.Cond.selects "GrowingDoor" ({ cls := "GrowingDoor", name := "rung", desc := "(I)I" } : Jvm.MethodName) ({ cls := "GrowingDoor", name := "rung", desc := "(I)I" } : Jvm.MethodName)) ∈ lw_all := lw_g (lw_at lw_m6 3 rfl) rfl
theorem q1289 : (Jvm.Cond.code ({ cls := "GrowingDoor", name := "rung", desc := "(I)I" } : Jvm.MethodName) prog_1_method_30_code (2 : Nat) (Option.some Jvm.ClassFile.FieldType.int)) ∈ lw_all := lw_g (lw_at lw_m6 4 rfl) rfl
theorem q1290 : (Jvm.Cond.constant "GrowingDoor" (341 : Nat) (2147483647 : Int32)) ∈ lw_all := lw_g (lw_at lw_m6 5 rfl) rfl
theorem q1295 : (Jvm.Cond.instanceMethod ({ cls := "GrowingDoor", name := "fits", desc := "(II)I" } : Jvm.MethodName)) ∈ lw_all := lw_g (lw_at lw_m6 10 rfl) rfl
theorem q1296 : (Jvm.Cond.selects "GrowingDoor" ({ cls := "GrowingDoor", name := "fits", desc := "(II)I" } : Jvm.MethodName) ({ cls := "GrowingDoor", name := "fits", desc := "(II)I" } : Jvm.MethodName)) ∈ lw_all := lw_g (lw_at lw_m6 11 rfl) rfl
theorem q1297 : (Jvm.Cond.code ({ cls := "GrowingDoor", name := "fits", desc := "(II)I" } : Jvm.MethodName) prog_1_method_32_code (6 : Nat) (Option.some Jvm.ClassFile.FieldType.int)) ∈ lw_all := lw_g (lw_at lw_m6 12 rfl) rfl
theorem q1298 : (Jvm.Cond.methodLink "GrowingDoor" (345 : Nat) ({ cls := "GrowingDoor", name := "isGrown", desc := "(III)Z" } : Jvm.MethodName)) ∈ lw_all := lw_g (lw_at lw_m6 13 rfl) rfl
theorem q1299 : (Jvm.Cond.privateMethod ({ cls := "GrowingDoor", name := "isGrown", desc := "(III)Z" } : Jvm.MethodName)) ∈ lw_tbl := lw_at lw_m6 14 rfl
theorem q1300 : (Jvm.Cond.instanceMethod ({ cls := "GrowingDoor", name := "isGrown", desc := "(III)Z" } : Jvm.MethodName)) ∈ lw_all := lw_g (lw_at lw_m6 15 rfl) rfl
theorem q1301 : (Jvm.Cond.code ({ cls := "GrowingDoor", name := "isGrown", desc := "(III)Z" } : Jvm.MethodName) prog_1_method_31_code (5 : Nat) (Option.some Jvm.ClassFile.FieldType.boolean)) ∈ lw_all := lw_g (lw_at lw_m6 16 rfl) rfl
theorem q1306 : (Jvm.Cond.instanceMethod ({ cls := "GrowingDoor", name := "look", desc := "(II)I" } : Jvm.MethodName)) ∈ lw_all := lw_g (lw_at lw_m6 21 rfl) rfl
theorem q1307 : (Jvm.Cond.selects "GrowingDoor" ({ cls := "GrowingDoor", name := "look", desc := "(II)I" } : Jvm.MethodName) ({ cls := "GrowingDoor", name := "look", desc := "(II)I" } : Jvm.MethodName)) ∈ lw_all := lw_g (lw_at lw_m6 22 rfl) rfl
theorem q1308 : (Jvm.Cond.code ({ cls := "GrowingDoor", name := "look", desc := "(II)I" } : Jvm.MethodName) prog_1_method_35_code (7 : Nat) (Option.some Jvm.ClassFile.FieldType.int)) ∈ lw_all := lw_g (lw_at lw_m6 23 rfl) rfl
theorem q1309 : (Jvm.Cond.methodLink "GrowingDoor" (349 : Nat) ({ cls := "GrowingDoor", name := "isTold", desc := "(I)Z" } : Jvm.MethodName)) ∈ lw_all := lw_g (lw_at lw_m6 24 rfl) rfl
theorem q1310 : (Jvm.Cond.privateMethod ({ cls := "GrowingDoor", name := "isTold", desc := "(I)Z" } : Jvm.MethodName)) ∈ lw_tbl := lw_at lw_m6 25 rfl
theorem q1311 : (Jvm.Cond.instanceMethod ({ cls := "GrowingDoor", name := "isTold", desc := "(I)Z" } : Jvm.MethodName)) ∈ lw_all := lw_g (lw_at lw_m6 26 rfl) rfl
theorem q1312 : (Jvm.Cond.code ({ cls := "GrowingDoor", name := "isTold", desc := "(I)Z" } : Jvm.MethodName) prog_1_method_33_code (3 : Nat) (Option.some Jvm.ClassFile.FieldType.boolean)) ∈ lw_all := lw_g (lw_at lw_m6 27 rfl) rfl
theorem q1313 : (Jvm.Cond.methodLink "GrowingDoor" (352 : Nat) ({ cls := "GrowingDoor", name := "worstAt", desc := "(II)I" } : Jvm.MethodName)) ∈ lw_all := lw_g (lw_at lw_m6 28 rfl) rfl
theorem q1314 : (Jvm.Cond.privateMethod ({ cls := "GrowingDoor", name := "worstAt", desc := "(II)I" } : Jvm.MethodName)) ∈ lw_tbl := lw_at lw_m6 29 rfl
theorem q1315 : (Jvm.Cond.instanceMethod ({ cls := "GrowingDoor", name := "worstAt", desc := "(II)I" } : Jvm.MethodName)) ∈ lw_all := lw_g (lw_at lw_m6 30 rfl) rfl
theorem q1316 : (Jvm.Cond.code ({ cls := "GrowingDoor", name := "worstAt", desc := "(II)I" } : Jvm.MethodName) prog_1_method_34_code (5 : Nat) (Option.some Jvm.ClassFile.FieldType.int)) ∈ lw_all := lw_g (lw_at lw_m6 31 rfl) rfl
theorem q1321 : (Jvm.Cond.instanceMethod ({ cls := "GrowingDoor", name := "run", desc := "(IIII)J" } : Jvm.MethodName)) ∈ lw_all := lw_g (lw_at lw_m6 36 rfl) rfl
theorem q1322 : (Jvm.Cond.selects "GrowingDoor" ({ cls := "GrowingDoor", name := "run", desc := "(IIII)J" } : Jvm.MethodName) ({ cls := "GrowingDoor", name := "run", desc := "(IIII)J" } : Jvm.MethodName)) ∈ lw_all := lw_g (lw_at lw_m6 37 rfl) rfl
theorem q1323 : (Jvm.Cond.code ({ cls := "GrowingDoor", name := "run", desc := "(IIII)J" } : Jvm.MethodName) prog_1_method_37_code (10 : Nat) (Option.some Jvm.ClassFile.FieldType.long)) ∈ lw_all := lw_g (lw_at lw_m6 38 rfl) rfl
theorem q1324 : (Jvm.Cond.methodLink "GrowingDoor" (355 : Nat) ({ cls := "GrowingDoor", name := "part", desc := "(JJI)J" } : Jvm.MethodName)) ∈ lw_all := lw_g (lw_at lw_m6 39 rfl) rfl
theorem q1325 : (Jvm.Cond.static ({ cls := "GrowingDoor", name := "part", desc := "(JJI)J" } : Jvm.MethodName)) ∈ lw_all := lw_g (lw_at lw_m6 40 rfl) rfl
theorem q1326 : (Jvm.Cond.code ({ cls := "GrowingDoor", name := "part", desc := "(JJI)J" } : Jvm.MethodName) prog_1_method_36_code (11 : Nat) (Option.some Jvm.ClassFile.FieldType.long)) ∈ lw_all := lw_g (lw_at lw_m6 41 rfl) rfl
theorem q1331 : (Jvm.Cond.instanceMethod ({ cls := "GrowingDoor", name := "planes", desc := "(III)I" } : Jvm.MethodName)) ∈ lw_all := lw_g (lw_at lw_m6 46 rfl) rfl
theorem q1332 : (Jvm.Cond.selects "GrowingDoor" ({ cls := "GrowingDoor", name := "planes", desc := "(III)I" } : Jvm.MethodName) ({ cls := "GrowingDoor", name := "planes", desc := "(III)I" } : Jvm.MethodName)) ∈ lw_all := lw_g (lw_at lw_m6 47 rfl) rfl
theorem q1333 : (Jvm.Cond.code ({ cls := "GrowingDoor", name := "planes", desc := "(III)I" } : Jvm.MethodName) prog_1_method_39_code (10 : Nat) (Option.some Jvm.ClassFile.FieldType.int)) ∈ lw_all := lw_g (lw_at lw_m6 48 rfl) rfl
theorem q1334 : (Jvm.Cond.methodLink "GrowingDoor" (359 : Nat) ({ cls := "GrowingDoor", name := "hasBy", desc := "(IIII)I" } : Jvm.MethodName)) ∈ lw_all := lw_g (lw_at lw_m6 49 rfl) rfl
theorem q1335 : (Jvm.Cond.static ({ cls := "GrowingDoor", name := "hasBy", desc := "(IIII)I" } : Jvm.MethodName)) ∈ lw_all := lw_g (lw_at lw_m6 50 rfl) rfl
theorem q1336 : (Jvm.Cond.code ({ cls := "GrowingDoor", name := "hasBy", desc := "(IIII)I" } : Jvm.MethodName) prog_1_method_38_code (4 : Nat) (Option.some Jvm.ClassFile.FieldType.int)) ∈ lw_all := lw_g (lw_at lw_m6 51 rfl) rfl
theorem q1341 : (Jvm.Cond.instanceMethod ({ cls := "GrowingDoor", name := "chairs", desc := "(III)I" } : Jvm.MethodName)) ∈ lw_all := lw_g (lw_at lw_m6 56 rfl) rfl
theorem q1342 : (Jvm.Cond.selects "GrowingDoor" ({ cls := "GrowingDoor", name := "chairs", desc := "(III)I" } : Jvm.MethodName) ({ cls := "GrowingDoor", name := "chairs", desc := "(III)I" } : Jvm.MethodName)) ∈ lw_all := lw_g (lw_at lw_m6 57 rfl) rfl
theorem q1343 : (Jvm.Cond.code ({ cls := "GrowingDoor", name := "chairs", desc := "(III)I" } : Jvm.MethodName) prog_1_method_41_code (7 : Nat) (Option.some Jvm.ClassFile.FieldType.int)) ∈ lw_all := lw_g (lw_at lw_m6 58 rfl) rfl
theorem q1344 : (Jvm.Cond.methodLink "GrowingDoor" (363 : Nat) ({ cls := "GrowingDoor", name := "givenBy", desc := "(II)I" } : Jvm.MethodName)) ∈ lw_all := lw_g (lw_at lw_m6 59 rfl) rfl
theorem q1345 : (Jvm.Cond.privateMethod ({ cls := "GrowingDoor", name := "givenBy", desc := "(II)I" } : Jvm.MethodName)) ∈ lw_tbl := lw_at lw_m6 60 rfl
theorem q1346 : (Jvm.Cond.instanceMethod ({ cls := "GrowingDoor", name := "givenBy", desc := "(II)I" } : Jvm.MethodName)) ∈ lw_all := lw_g (lw_at lw_m6 61 rfl) rfl
theorem q1347 : (Jvm.Cond.code ({ cls := "GrowingDoor", name := "givenBy", desc := "(II)I" } : Jvm.MethodName) prog_1_method_40_code (5 : Nat) (Option.some Jvm.ClassFile.FieldType.int)) ∈ lw_all := lw_g (lw_at lw_m6 62 rfl) rfl
theorem q1352 : (Jvm.Cond.instanceMethod ({ cls := "GrowingDoor", name := "tallest", desc := "(I)I" } : Jvm.MethodName)) ∈ lw_all := lw_g (lw_at lw_m6 67 rfl) rfl
theorem q1353 : (Jvm.Cond.selects "GrowingDoor" ({ cls := "GrowingDoor", name := "tallest", desc := "(I)I" } : Jvm.MethodName) ({ cls := "GrowingDoor", name := "tallest", desc := "(I)I" } : Jvm.MethodName)) ∈ lw_all := lw_g (lw_at lw_m6 68 rfl) rfl
theorem q1354 : (Jvm.Cond.code ({ cls := "GrowingDoor", name := "tallest", desc := "(I)I" } : Jvm.MethodName) prog_1_method_42_code (5 : Nat) (Option.some Jvm.ClassFile.FieldType.int)) ∈ lw_all := lw_g (lw_at lw_m6 69 rfl) rfl
theorem q1359 : (Jvm.Cond.instanceMethod ({ cls := "GrowingDoor", name := "gained", desc := "(I)I" } : Jvm.MethodName)) ∈ lw_all := lw_g (lw_at lw_m6 74 rfl) rfl
theorem q1360 : (Jvm.Cond.selects "GrowingDoor" ({ cls := "GrowingDoor", name := "gained", desc := "(I)I" } : Jvm.MethodName) ({ cls := "GrowingDoor", name := "gained", desc := "(I)I" } : Jvm.MethodName)) ∈ lw_all := lw_g (lw_at lw_m6 75 rfl) rfl
theorem q1361 : (Jvm.Cond.code ({ cls := "GrowingDoor", name := "gained", desc := "(I)I" } : Jvm.MethodName) prog_1_method_43_code (5 : Nat) (Option.some Jvm.ClassFile.FieldType.int)) ∈ lw_all := lw_g (lw_at lw_m6 76 rfl) rfl
theorem q1362 : (Jvm.Cond.methodLink "GrowingDoor" (366 : Nat) ({ cls := "java/lang/Integer", name := "signum", desc := "(I)I" } : Jvm.MethodName)) ∈ lw_all := lw_g (lw_at lw_m6 77 rfl) rfl
theorem q1369 : (Jvm.Cond.instanceMethod ({ cls := "GrowingDoor", name := "lies", desc := "(I)I" } : Jvm.MethodName)) ∈ lw_all := lw_g (lw_at lw_m6 84 rfl) rfl
theorem q1370 : (Jvm.Cond.selects "GrowingDoor" ({ cls := "GrowingDoor", name := "lies", desc := "(I)I" } : Jvm.MethodName) ({ cls := "GrowingDoor", name := "lies", desc := "(I)I" } : Jvm.MethodName)) ∈ lw_all := lw_g (lw_at lw_m6 85 rfl) rfl
theorem q1371 : (Jvm.Cond.code ({ cls := "GrowingDoor", name := "lies", desc := "(I)I" } : Jvm.MethodName) prog_1_method_21_code (2 : Nat) (Option.some Jvm.ClassFile.FieldType.int)) ∈ lw_all := lw_g (lw_at lw_m6 86 rfl) rfl
theorem q1372 : (Jvm.Cond.methodLink "GrowingDoor" (312 : Nat) ({ cls := "GrowingDoor$State", name := "lies", desc := "(I)I" } : Jvm.MethodName)) ∈ lw_all := lw_g (lw_at lw_m6 87 rfl) rfl
theorem q1377 : (Jvm.Cond.instanceMethod ({ cls := "GrowingDoor", name := "swells", desc := "(I)I" } : Jvm.MethodName)) ∈ lw_all := lw_g (lw_at lw_m6 92 rfl) rfl
theorem q1378 : (Jvm.Cond.selects "GrowingDoor" ({ cls := "GrowingDoor", name := "swells", desc := "(I)I" } : Jvm.MethodName) ({ cls := "GrowingDoor", name := "swells", desc := "(I)I" } : Jvm.MethodName)) ∈ lw_all := lw_g (lw_at lw_m6 93 rfl) rfl
theorem q1379 : (Jvm.Cond.code ({ cls := "GrowingDoor", name := "swells", desc := "(I)I" } : Jvm.MethodName) prog_1_method_19_code (2 : Nat) (Option.some Jvm.ClassFile.FieldType.int)) ∈ lw_all := lw_g (lw_at lw_m6 94 rfl) rfl
theorem q1380 : (Jvm.Cond.methodLink "GrowingDoor" (290 : Nat) ({ cls := "GrowingDoor$State", name := "swells", desc := "(I)I" } : Jvm.MethodName)) ∈ lw_all := lw_g (lw_at lw_m6 95 rfl) rfl
theorem q1385 : (Jvm.Cond.instanceMethod ({ cls := "GrowingDoor", name := "sinks", desc := "(I)I" } : Jvm.MethodName)) ∈ lw_all := lw_g (lw_at lw_m6 100 rfl) rfl
theorem q1386 : (Jvm.Cond.selects "GrowingDoor" ({ cls := "GrowingDoor", name := "sinks", desc := "(I)I" } : Jvm.MethodName) ({ cls := "GrowingDoor", name := "sinks", desc := "(I)I" } : Jvm.MethodName)) ∈ lw_all := lw_g (lw_at lw_m6 101 rfl) rfl
theorem q1387 : (Jvm.Cond.code ({ cls := "GrowingDoor", name := "sinks", desc := "(I)I" } : Jvm.MethodName) prog_1_method_44_code (3 : Nat) (Option.some Jvm.ClassFile.FieldType.int)) ∈ lw_all := lw_g (lw_at lw_m6 102 rfl) rfl
theorem q1392 : (Jvm.Cond.instanceMethod ({ cls := "GrowingDoor", name := "heads", desc := "(I)I" } : Jvm.MethodName)) ∈ lw_all := lw_g (lw_at lw_m6 107 rfl) rfl
theorem q1393 : (Jvm.Cond.selects "GrowingDoor" ({ cls := "GrowingDoor", name := "heads", desc := "(I)I" } : Jvm.MethodName) ({ cls := "GrowingDoor", name := "heads", desc := "(I)I" } : Jvm.MethodName)) ∈ lw_all := lw_g (lw_at lw_m6 108 rfl) rfl
theorem q1394 : (Jvm.Cond.code ({ cls := "GrowingDoor", name := "heads", desc := "(I)I" } : Jvm.MethodName) prog_1_method_45_code (6 : Nat) (Option.some Jvm.ClassFile.FieldType.int)) ∈ lw_all := lw_g (lw_at lw_m6 109 rfl) rfl
theorem q1399 : (Jvm.Cond.instanceMethod ({ cls := "GrowingDoor", name := "driest", desc := "(I)I" } : Jvm.MethodName)) ∈ lw_all := lw_g (lw_at lw_m6 114 rfl) rfl
theorem q1400 : (Jvm.Cond.selects "GrowingDoor" ({ cls := "GrowingDoor", name := "driest", desc := "(I)I" } : Jvm.MethodName) ({ cls := "GrowingDoor", name := "driest", desc := "(I)I" } : Jvm.MethodName)) ∈ lw_all := lw_g (lw_at lw_m6 115 rfl) rfl
theorem q1401 : (Jvm.Cond.code ({ cls := "GrowingDoor", name := "driest", desc := "(I)I" } : Jvm.MethodName) prog_1_method_46_code (4 : Nat) (Option.some Jvm.ClassFile.FieldType.int)) ∈ lw_all := lw_g (lw_at lw_m6 116 rfl) rfl
theorem q1406 : (Jvm.Cond.instanceMethod ({ cls := "GrowingDoor", name := "decade", desc := "(IIII)I" } : Jvm.MethodName)) ∈ lw_all := lw_g (lw_at lw_m6 121 rfl) rfl
theorem q1407 : (Jvm.Cond.selects "GrowingDoor" ({ cls := "GrowingDoor", name := "decade", desc := "(IIII)I" } : Jvm.MethodName) ({ cls := "GrowingDoor", name := "decade", desc := "(IIII)I" } : Jvm.MethodName)) ∈ lw_all := lw_g (lw_at lw_m6 122 rfl) rfl
theorem q1408 : (Jvm.Cond.code ({ cls := "GrowingDoor", name := "decade", desc := "(IIII)I" } : Jvm.MethodName) prog_1_method_50_code (6 : Nat) (Option.some Jvm.ClassFile.FieldType.int)) ∈ lw_all := lw_g (lw_at lw_m6 123 rfl) rfl
theorem q1409 : (Jvm.Cond.methodLink "GrowingDoor" (391 : Nat) ({ cls := "GrowingDoor", name := "decadeOf", desc := "(II)V" } : Jvm.MethodName)) ∈ lw_all := lw_g (lw_at lw_m6 124 rfl) rfl
theorem q1410 : (Jvm.Cond.privateMethod ({ cls := "GrowingDoor", name := "decadeOf", desc := "(II)V" } : Jvm.MethodName)) ∈ lw_tbl := lw_at lw_m6 125 rfl
theorem q1411 : (Jvm.Cond.instanceMethod ({ cls := "GrowingDoor", name := "decadeOf", desc := "(II)V" } : Jvm.MethodName)) ∈ lw_all := lw_g (lw_at lw_m6 126 rfl) rfl
theorem q1412 : (Jvm.Cond.code ({ cls := "GrowingDoor", name := "decadeOf", desc := "(II)V" } : Jvm.MethodName) prog_1_method_49_code (3 : Nat) (Option.none : Option Jvm.ClassFile.FieldType)) ∈ lw_all := lw_g (lw_at lw_m6 127 rfl) rfl
theorem q1413 : (Jvm.Cond.methodLink "GrowingDoor" (394 : Nat) ({ cls := "GrowingDoor", name := "goes", desc := "(III)LGrowingDoor$State;" } : Jvm.MethodName)) ∈ lw_all := lw_g (lw_at lw_m6 128 rfl) rfl
theorem q1414 : (Jvm.Cond.privateMethod ({ cls := "GrowingDoor", name := "goes", desc := "(III)LGrowingDoor$State;" } : Jvm.MethodName)) ∈ lw_tbl := lw_at lw_m6 129 rfl
theorem q1415 : (Jvm.Cond.instanceMethod ({ cls := "GrowingDoor", name := "goes", desc := "(III)LGrowingDoor$State;" } : Jvm.MethodName)) ∈ lw_all := lw_g (lw_at lw_m6 130 rfl) rfl
theorem q1416 : (Jvm.Cond.code ({ cls := "GrowingDoor", name := "goes", desc := "(III)LGrowingDoor$State;" } : Jvm.MethodName) prog_1_method_48_code (6 : Nat) (Option.some (Jvm.ClassFile.FieldType.object "GrowingDoor$State"))) ∈ lw_all := lw_g (lw_at lw_m6 131 rfl) rfl
theorem q1417 : (Jvm.Cond.methodLink "GrowingDoor" (378 : Nat) ({ cls := "GrowingDoor", name := "draw", desc := "(I)I" } : Jvm.MethodName)) ∈ lw_all := lw_g (lw_at lw_m6 132 rfl) rfl
theorem q1418 : (Jvm.Cond.privateMethod ({ cls := "GrowingDoor", name := "draw", desc := "(I)I" } : Jvm.MethodName)) ∈ lw_tbl := lw_at lw_m6 133 rfl
theorem q1419 : (Jvm.Cond.instanceMethod ({ cls := "GrowingDoor", name := "draw", desc := "(I)I" } : Jvm.MethodName)) ∈ lw_all := lw_g (lw_at lw_m6 134 rfl) rfl
theorem q1420 : (Jvm.Cond.code ({ cls := "GrowingDoor", name := "draw", desc := "(I)I" } : Jvm.MethodName) prog_1_method_47_code (2 : Nat) (Option.some Jvm.ClassFile.FieldType.int)) ∈ lw_all := lw_g (lw_at lw_m6 135 rfl) rfl
theorem q1421 : (Jvm.Cond.constant "GrowingDoor" (374 : Nat) (1103515245 : Int32)) ∈ lw_all := lw_g (lw_at lw_m6 136 rfl) rfl
theorem q1422 : (Jvm.Cond.methodLink "GrowingDoor" (381 : Nat) ({ cls := "GrowingDoor$State", name := "notches", desc := "(I)Z" } : Jvm.MethodName)) ∈ lw_all := lw_g (lw_at lw_m6 137 rfl) rfl
theorem q1423 : (Jvm.Cond.methodLink "GrowingDoor" (384 : Nat) ({ cls := "GrowingDoor$State", name := "eats", desc := "(II)Z" } : Jvm.MethodName)) ∈ lw_all := lw_g (lw_at lw_m6 138 rfl) rfl
theorem q1424 : (Jvm.Cond.methodLink "GrowingDoor" (388 : Nat) ({ cls := "GrowingDoor$State", name := "oils", desc := "(I)Z" } : Jvm.MethodName)) ∈ lw_all := lw_g (lw_at lw_m6 139 rfl) rfl
theorem q1429 : (Jvm.Cond.instanceMethod ({ cls := "GrowingDoor", name := "span", desc := "(IIIIII)I" } : Jvm.MethodName)) ∈ lw_all := lw_g (lw_at lw_m6 144 rfl) rfl
theorem q1430 : (Jvm.Cond.selects "GrowingDoor" ({ cls := "GrowingDoor", name := "span", desc := "(IIIIII)I" } : Jvm.MethodName) ({ cls := "GrowingDoor", name := "span", desc := "(IIIIII)I" } : Jvm.MethodName)) ∈ lw_all := lw_g (lw_at lw_m6 145 rfl) rfl
theorem q1431 : (Jvm.Cond.code ({ cls := "GrowingDoor", name := "span", desc := "(IIIIII)I" } : Jvm.MethodName) prog_1_method_51_code (12 : Nat) (Option.some Jvm.ClassFile.FieldType.int)) ∈ lw_all := lw_g (lw_at lw_m6 146 rfl) rfl
theorem q2054 : (Jvm.Cond.castable "GrowingDoor" "java/lang/Object") ∈ lw_tbl := lw_at lw_m9 49 rfl
theorem in_X1 : ∀ w ∈ wsX10, w ∈ lw_all := lw_in wsX10 [379, 381, 383, 385, 387, 389, 391, 393, 395, 397, 399, 401, 403, 405, 407, 409, 411, 413, 415, 417, 419, 421, 423] (by decide +kernel) (by decide +kernel)

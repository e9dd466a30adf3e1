/-! segment equations -/
set_option maxRecDepth 100000

theorem x41_0 (d : Nat) (L st : List Value) (h : gd_H) : go gd_P0 d 41 0 L st h = gs gd_P0 d 41 0 L (i_ald 0 1 L st h) := go_eq gd_P0 d 41 0 L st h
theorem x41_1 (d : Nat) (L st : List Value) (h : gd_H) : go gd_P0 d 41 1 L st h = gs gd_P0 d 41 1 L (i_oin 4 L st h) := go_eq gd_P0 d 41 1 L st h
theorem x41_4 (d : Nat) (L st : List Value) (h : gd_H) : go gd_P0 d 41 4 L st h = gs gd_P0 d 41 4 L (i_msk [true] (i_ald 0 5) L st h) := go_eq gd_P0 d 41 4 L st h
theorem x41_5 (d : Nat) (L st : List Value) (h : gd_H) : go gd_P0 d 41 5 L st h = gs gd_P0 d 41 5 L (i_psh (.int 600) 8 L st h) := go_eq gd_P0 d 41 5 L st h
theorem x41_8 (d : Nat) (L st : List Value) (h : gd_H) : go gd_P0 d 41 8 L st h = gs gd_P0 d 41 8 L (i_newa 32 10 L st h) := go_eq gd_P0 d 41 8 L st h
theorem x41_10 (d : Nat) (L st : List Value) (h : gd_H) : go gd_P0 d 41 10 L st h = gs gd_P0 d 41 10 L (i_putR 1 0 13 L st h) := go_eq gd_P0 d 41 10 L st h
theorem x41_13 (d : Nat) (L st : List Value) (h : gd_H) : go gd_P0 d 41 13 L st h = gs gd_P0 d 41 13 L (i_ald 0 14 L st h) := go_eq gd_P0 d 41 13 L st h
theorem x41_14 (d : Nat) (L st : List Value) (h : gd_H) : go gd_P0 d 41 14 L st h = gs gd_P0 d 41 14 L (i_new 2 1 17 L st h) := go_eq gd_P0 d 41 14 L st h
theorem x41_17 (d : Nat) (L st : List Value) (h : gd_H) : go gd_P0 d 41 17 L st h = gs gd_P0 d 41 17 L (i_dup 18 L st h) := go_eq gd_P0 d 41 17 L st h
theorem x41_18 (d : Nat) (L st : List Value) (h : gd_H) : go gd_P0 d 41 18 L st h = gs gd_P0 d 41 18 L (i_cV 134 0 2 21 L st h) := go_eq gd_P0 d 41 18 L st h
theorem x41_21 (d : Nat) (L st : List Value) (h : gd_H) : go gd_P0 d 41 21 L st h = gs gd_P0 d 41 21 L (i_msk [true] (i_putR 1 1 24) L st h) := go_eq gd_P0 d 41 21 L st h
theorem x41_24 (d : Nat) (L st : List Value) (h : gd_H) : go gd_P0 d 41 24 L st h = gs gd_P0 d 41 24 L (i_ald 0 25 L st h) := go_eq gd_P0 d 41 24 L st h
theorem x41_25 (d : Nat) (L st : List Value) (h : gd_H) : go gd_P0 d 41 25 L st h = gs gd_P0 d 41 25 L (i_new 3 2 28 L st h) := go_eq gd_P0 d 41 25 L st h
theorem x41_28 (d : Nat) (L st : List Value) (h : gd_H) : go gd_P0 d 41 28 L st h = gs gd_P0 d 41 28 L (i_dup 29 L st h) := go_eq gd_P0 d 41 28 L st h
theorem x41_29 (d : Nat) (L st : List Value) (h : gd_H) : go gd_P0 d 41 29 L st h = gs gd_P0 d 41 29 L (i_ald 0 30 L st h) := go_eq gd_P0 d 41 29 L st h
theorem x41_30 (d : Nat) (L st : List Value) (h : gd_H) : go gd_P0 d 41 30 L st h = gs gd_P0 d 41 30 L (i_getR 1 1 33 L st h) := go_eq gd_P0 d 41 30 L st h
theorem x41_33 (d : Nat) (L st : List Value) (h : gd_H) : go gd_P0 d 41 33 L st h = gs gd_P0 d 41 33 L (i_cV 144 1 3 36 L st h) := go_eq gd_P0 d 41 33 L st h
theorem x41_36 (d : Nat) (L st : List Value) (h : gd_H) : go gd_P0 d 41 36 L st h = gs gd_P0 d 41 36 L (i_msk [true] (i_putR 1 2 39) L st h) := go_eq gd_P0 d 41 36 L st h
theorem x41_39 (d : Nat) (L st : List Value) (h : gd_H) : go gd_P0 d 41 39 L st h = gs gd_P0 d 41 39 L (i_ald 0 40 L st h) := go_eq gd_P0 d 41 39 L st h
theorem x41_40 (d : Nat) (L st : List Value) (h : gd_H) : go gd_P0 d 41 40 L st h = gs gd_P0 d 41 40 L (i_psh (.int 3) 41 L st h) := go_eq gd_P0 d 41 40 L st h
theorem x41_41 (d : Nat) (L st : List Value) (h : gd_H) : go gd_P0 d 41 41 L st h = gs gd_P0 d 41 41 L (i_newa 36 44 L st h) := go_eq gd_P0 d 41 41 L st h
theorem x41_44 (d : Nat) (L st : List Value) (h : gd_H) : go gd_P0 d 41 44 L st h = gs gd_P0 d 41 44 L (i_dup 45 L st h) := go_eq gd_P0 d 41 44 L st h
theorem x41_45 (d : Nat) (L st : List Value) (h : gd_H) : go gd_P0 d 41 45 L st h = gs gd_P0 d 41 45 L (i_psh (.int 0) 46 L st h) := go_eq gd_P0 d 41 45 L st h
theorem x41_46 (d : Nat) (L st : List Value) (h : gd_H) : go gd_P0 d 41 46 L st h = gs gd_P0 d 41 46 L (i_new 3 2 49 L st h) := go_eq gd_P0 d 41 46 L st h
theorem x41_49 (d : Nat) (L st : List Value) (h : gd_H) : go gd_P0 d 41 49 L st h = gs gd_P0 d 41 49 L (i_dup 50 L st h) := go_eq gd_P0 d 41 49 L st h
theorem x41_50 (d : Nat) (L st : List Value) (h : gd_H) : go gd_P0 d 41 50 L st h = gs gd_P0 d 41 50 L (i_ald 0 51 L st h) := go_eq gd_P0 d 41 50 L st h
theorem x41_51 (d : Nat) (L st : List Value) (h : gd_H) : go gd_P0 d 41 51 L st h = gs gd_P0 d 41 51 L (i_getR 1 1 54 L st h) := go_eq gd_P0 d 41 51 L st h
theorem x41_54 (d : Nat) (L st : List Value) (h : gd_H) : go gd_P0 d 41 54 L st h = gs gd_P0 d 41 54 L (i_cV 144 1 3 57 L st h) := go_eq gd_P0 d 41 54 L st h
theorem x41_57 (d : Nat) (L st : List Value) (h : gd_H) : go gd_P0 d 41 57 L st h = gs gd_P0 d 41 57 L (i_msk [true] (i_astR 36 [3] 58) L st h) := go_eq gd_P0 d 41 57 L st h
theorem x41_58 (d : Nat) (L st : List Value) (h : gd_H) : go gd_P0 d 41 58 L st h = gs gd_P0 d 41 58 L (i_dup 59 L st h) := go_eq gd_P0 d 41 58 L st h
theorem x41_59 (d : Nat) (L st : List Value) (h : gd_H) : go gd_P0 d 41 59 L st h = gs gd_P0 d 41 59 L (i_psh (.int 1) 60 L st h) := go_eq gd_P0 d 41 59 L st h
theorem x41_60 (d : Nat) (L st : List Value) (h : gd_H) : go gd_P0 d 41 60 L st h = gs gd_P0 d 41 60 L (i_new 3 2 63 L st h) := go_eq gd_P0 d 41 60 L st h
theorem x41_63 (d : Nat) (L st : List Value) (h : gd_H) : go gd_P0 d 41 63 L st h = gs gd_P0 d 41 63 L (i_dup 64 L st h) := go_eq gd_P0 d 41 63 L st h
theorem x41_64 (d : Nat) (L st : List Value) (h : gd_H) : go gd_P0 d 41 64 L st h = gs gd_P0 d 41 64 L (i_ald 0 65 L st h) := go_eq gd_P0 d 41 64 L st h
theorem x41_65 (d : Nat) (L st : List Value) (h : gd_H) : go gd_P0 d 41 65 L st h = gs gd_P0 d 41 65 L (i_getR 1 1 68 L st h) := go_eq gd_P0 d 41 65 L st h
theorem x41_68 (d : Nat) (L st : List Value) (h : gd_H) : go gd_P0 d 41 68 L st h = gs gd_P0 d 41 68 L (i_cV 144 1 3 71 L st h) := go_eq gd_P0 d 41 68 L st h
theorem x41_71 (d : Nat) (L st : List Value) (h : gd_H) : go gd_P0 d 41 71 L st h = gs gd_P0 d 41 71 L (i_msk [true] (i_astR 36 [3] 72) L st h) := go_eq gd_P0 d 41 71 L st h
theorem x41_72 (d : Nat) (L st : List Value) (h : gd_H) : go gd_P0 d 41 72 L st h = gs gd_P0 d 41 72 L (i_dup 73 L st h) := go_eq gd_P0 d 41 72 L st h
theorem x41_73 (d : Nat) (L st : List Value) (h : gd_H) : go gd_P0 d 41 73 L st h = gs gd_P0 d 41 73 L (i_psh (.int 2) 74 L st h) := go_eq gd_P0 d 41 73 L st h
theorem x41_74 (d : Nat) (L st : List Value) (h : gd_H) : go gd_P0 d 41 74 L st h = gs gd_P0 d 41 74 L (i_new 3 2 77 L st h) := go_eq gd_P0 d 41 74 L st h
theorem x41_77 (d : Nat) (L st : List Value) (h : gd_H) : go gd_P0 d 41 77 L st h = gs gd_P0 d 41 77 L (i_dup 78 L st h) := go_eq gd_P0 d 41 77 L st h
theorem x41_78 (d : Nat) (L st : List Value) (h : gd_H) : go gd_P0 d 41 78 L st h = gs gd_P0 d 41 78 L (i_ald 0 79 L st h) := go_eq gd_P0 d 41 78 L st h
theorem x41_79 (d : Nat) (L st : List Value) (h : gd_H) : go gd_P0 d 41 79 L st h = gs gd_P0 d 41 79 L (i_getR 1 1 82 L st h) := go_eq gd_P0 d 41 79 L st h
theorem x41_82 (d : Nat) (L st : List Value) (h : gd_H) : go gd_P0 d 41 82 L st h = gs gd_P0 d 41 82 L (i_cV 144 1 3 85 L st h) := go_eq gd_P0 d 41 82 L st h
theorem x41_85 (d : Nat) (L st : List Value) (h : gd_H) : go gd_P0 d 41 85 L st h = gs gd_P0 d 41 85 L (i_msk [true] (i_astR 36 [3] 86) L st h) := go_eq gd_P0 d 41 85 L st h
theorem x41_86 (d : Nat) (L st : List Value) (h : gd_H) : go gd_P0 d 41 86 L st h = gs gd_P0 d 41 86 L (i_putR 1 3 89 L st h) := go_eq gd_P0 d 41 86 L st h
theorem x41_89 (d : Nat) (L st : List Value) (h : gd_H) : go gd_P0 d 41 89 L st h = gs gd_P0 d 41 89 L (i_ald 0 90 L st h) := go_eq gd_P0 d 41 89 L st h
theorem x41_90 (d : Nat) (L st : List Value) (h : gd_H) : go gd_P0 d 41 90 L st h = gs gd_P0 d 41 90 L (i_new 4 14 93 L st h) := go_eq gd_P0 d 41 90 L st h
theorem x41_93 (d : Nat) (L st : List Value) (h : gd_H) : go gd_P0 d 41 93 L st h = gs gd_P0 d 41 93 L (i_dup 94 L st h) := go_eq gd_P0 d 41 93 L st h
theorem x41_94 (d : Nat) (L st : List Value) (h : gd_H) : go gd_P0 d 41 94 L st h = gs gd_P0 d 41 94 L (i_ald 0 95 L st h) := go_eq gd_P0 d 41 94 L st h
theorem x41_95 (d : Nat) (L st : List Value) (h : gd_H) : go gd_P0 d 41 95 L st h = gs gd_P0 d 41 95 L (i_getR 1 1 98 L st h) := go_eq gd_P0 d 41 95 L st h
theorem x41_98 (d : Nat) (L st : List Value) (h : gd_H) : go gd_P0 d 41 98 L st h = gs gd_P0 d 41 98 L (i_cV 147 1 4 101 L st h) := go_eq gd_P0 d 41 98 L st h
theorem x41_101 (d : Nat) (L st : List Value) (h : gd_H) : go gd_P0 d 41 101 L st h = gs gd_P0 d 41 101 L (i_msk [true] (i_putR 1 4 104) L st h) := go_eq gd_P0 d 41 101 L st h
theorem x41_104 (d : Nat) (L st : List Value) (h : gd_H) : go gd_P0 d 41 104 L st h = gs gd_P0 d 41 104 L (i_ald 0 105 L st h) := go_eq gd_P0 d 41 104 L st h
theorem x41_105 (d : Nat) (L st : List Value) (h : gd_H) : go gd_P0 d 41 105 L st h = gs gd_P0 d 41 105 L (i_new 7 4 108 L st h) := go_eq gd_P0 d 41 105 L st h
theorem x41_108 (d : Nat) (L st : List Value) (h : gd_H) : go gd_P0 d 41 108 L st h = gs gd_P0 d 41 108 L (i_dup 109 L st h) := go_eq gd_P0 d 41 108 L st h
theorem x41_109 (d : Nat) (L st : List Value) (h : gd_H) : go gd_P0 d 41 109 L st h = gs gd_P0 d 41 109 L (i_cV 172 0 7 112 L st h) := go_eq gd_P0 d 41 109 L st h
theorem x41_112 (d : Nat) (L st : List Value) (h : gd_H) : go gd_P0 d 41 112 L st h = gs gd_P0 d 41 112 L (i_msk [true] (i_putR 1 5 115) L st h) := go_eq gd_P0 d 41 112 L st h
theorem x41_115 (d : Nat) (L st : List Value) (h : gd_H) : go gd_P0 d 41 115 L st h = gs gd_P0 d 41 115 L (i_ald 0 116 L st h) := go_eq gd_P0 d 41 115 L st h
theorem x41_116 (d : Nat) (L st : List Value) (h : gd_H) : go gd_P0 d 41 116 L st h = gs gd_P0 d 41 116 L (i_new 5 8 119 L st h) := go_eq gd_P0 d 41 116 L st h
theorem x41_119 (d : Nat) (L st : List Value) (h : gd_H) : go gd_P0 d 41 119 L st h = gs gd_P0 d 41 119 L (i_dup 120 L st h) := go_eq gd_P0 d 41 119 L st h
theorem x41_120 (d : Nat) (L st : List Value) (h : gd_H) : go gd_P0 d 41 120 L st h = gs gd_P0 d 41 120 L (i_cV 169 0 5 123 L st h) := go_eq gd_P0 d 41 120 L st h
theorem x41_123 (d : Nat) (L st : List Value) (h : gd_H) : go gd_P0 d 41 123 L st h = gs gd_P0 d 41 123 L (i_msk [true] (i_putR 1 6 126) L st h) := go_eq gd_P0 d 41 123 L st h
theorem x41_126 (d : Nat) (L st : List Value) (h : gd_H) : go gd_P0 d 41 126 L st h = gs gd_P0 d 41 126 L (i_ald 0 127 L st h) := go_eq gd_P0 d 41 126 L st h
theorem x41_127 (d : Nat) (L st : List Value) (h : gd_H) : go gd_P0 d 41 127 L st h = gs gd_P0 d 41 127 L (i_psh (.int 2) 128 L st h) := go_eq gd_P0 d 41 127 L st h
theorem x41_128 (d : Nat) (L st : List Value) (h : gd_H) : go gd_P0 d 41 128 L st h = gs gd_P0 d 41 128 L (i_newa 31 130 L st h) := go_eq gd_P0 d 41 128 L st h
theorem x41_130 (d : Nat) (L st : List Value) (h : gd_H) : go gd_P0 d 41 130 L st h = gs gd_P0 d 41 130 L (i_putR 1 7 133 L st h) := go_eq gd_P0 d 41 130 L st h
theorem x41_133 (d : Nat) (L st : List Value) (h : gd_H) : go gd_P0 d 41 133 L st h = gs gd_P0 d 41 133 L (i_ald 0 134 L st h) := go_eq gd_P0 d 41 133 L st h
theorem x41_134 (d : Nat) (L st : List Value) (h : gd_H) : go gd_P0 d 41 134 L st h = gs gd_P0 d 41 134 L (i_psh (.int 6) 136 L st h) := go_eq gd_P0 d 41 134 L st h
theorem x41_136 (d : Nat) (L st : List Value) (h : gd_H) : go gd_P0 d 41 136 L st h = gs gd_P0 d 41 136 L (i_newa 31 138 L st h) := go_eq gd_P0 d 41 136 L st h
theorem x41_138 (d : Nat) (L st : List Value) (h : gd_H) : go gd_P0 d 41 138 L st h = gs gd_P0 d 41 138 L (i_putR 1 8 141 L st h) := go_eq gd_P0 d 41 138 L st h
theorem x41_141 (d : Nat) (L st : List Value) (h : gd_H) : go gd_P0 d 41 141 L st h = gs gd_P0 d 41 141 L (i_ald 0 142 L st h) := go_eq gd_P0 d 41 141 L st h
theorem x41_142 (d : Nat) (L st : List Value) (h : gd_H) : go gd_P0 d 41 142 L st h = gs gd_P0 d 41 142 L (i_psh (.int 6) 144 L st h) := go_eq gd_P0 d 41 142 L st h
theorem x41_144 (d : Nat) (L st : List Value) (h : gd_H) : go gd_P0 d 41 144 L st h = gs gd_P0 d 41 144 L (i_newa 31 146 L st h) := go_eq gd_P0 d 41 144 L st h
theorem x41_146 (d : Nat) (L st : List Value) (h : gd_H) : go gd_P0 d 41 146 L st h = gs gd_P0 d 41 146 L (i_putR 1 9 149 L st h) := go_eq gd_P0 d 41 146 L st h
theorem x41_149 (d : Nat) (L st : List Value) (h : gd_H) : go gd_P0 d 41 149 L st h = gs gd_P0 d 41 149 L (i_ald 0 150 L st h) := go_eq gd_P0 d 41 149 L st h
theorem x41_150 (d : Nat) (L st : List Value) (h : gd_H) : go gd_P0 d 41 150 L st h = gs gd_P0 d 41 150 L (i_psh (.int 13) 152 L st h) := go_eq gd_P0 d 41 150 L st h
theorem x41_152 (d : Nat) (L st : List Value) (h : gd_H) : go gd_P0 d 41 152 L st h = gs gd_P0 d 41 152 L (i_newa 31 154 L st h) := go_eq gd_P0 d 41 152 L st h
theorem x41_154 (d : Nat) (L st : List Value) (h : gd_H) : go gd_P0 d 41 154 L st h = gs gd_P0 d 41 154 L (i_putR 1 10 157 L st h) := go_eq gd_P0 d 41 154 L st h
theorem x41_157 (d : Nat) (L st : List Value) (h : gd_H) : go gd_P0 d 41 157 L st h = gs gd_P0 d 41 157 L (i_ald 0 158 L st h) := go_eq gd_P0 d 41 157 L st h
theorem x41_158 (d : Nat) (L st : List Value) (h : gd_H) : go gd_P0 d 41 158 L st h = gs gd_P0 d 41 158 L (i_psh (.int 1000) 161 L st h) := go_eq gd_P0 d 41 158 L st h
theorem x41_161 (d : Nat) (L st : List Value) (h : gd_H) : go gd_P0 d 41 161 L st h = gs gd_P0 d 41 161 L (i_newa 31 163 L st h) := go_eq gd_P0 d 41 161 L st h
theorem x41_163 (d : Nat) (L st : List Value) (h : gd_H) : go gd_P0 d 41 163 L st h = gs gd_P0 d 41 163 L (i_putR 1 11 166 L st h) := go_eq gd_P0 d 41 163 L st h
theorem x41_166 (d : Nat) (L st : List Value) (h : gd_H) : go gd_P0 d 41 166 L st h = gs gd_P0 d 41 166 L (i_ald 0 167 L st h) := go_eq gd_P0 d 41 166 L st h
theorem x41_167 (d : Nat) (L st : List Value) (h : gd_H) : go gd_P0 d 41 167 L st h = gs gd_P0 d 41 167 L (i_psh (.int 7) 169 L st h) := go_eq gd_P0 d 41 167 L st h
theorem x41_169 (d : Nat) (L st : List Value) (h : gd_H) : go gd_P0 d 41 169 L st h = gs gd_P0 d 41 169 L (i_newa 31 171 L st h) := go_eq gd_P0 d 41 169 L st h
theorem x41_171 (d : Nat) (L st : List Value) (h : gd_H) : go gd_P0 d 41 171 L st h = gs gd_P0 d 41 171 L (i_putR 1 12 174 L st h) := go_eq gd_P0 d 41 171 L st h
theorem x41_174 (d : Nat) (L st : List Value) (h : gd_H) : go gd_P0 d 41 174 L st h = gs gd_P0 d 41 174 L (i_ald 0 175 L st h) := go_eq gd_P0 d 41 174 L st h
theorem x41_175 (d : Nat) (L st : List Value) (h : gd_H) : go gd_P0 d 41 175 L st h = gs gd_P0 d 41 175 L (i_psh (.int 7) 177 L st h) := go_eq gd_P0 d 41 175 L st h
theorem x41_177 (d : Nat) (L st : List Value) (h : gd_H) : go gd_P0 d 41 177 L st h = gs gd_P0 d 41 177 L (i_newa 31 179 L st h) := go_eq gd_P0 d 41 177 L st h
theorem x41_179 (d : Nat) (L st : List Value) (h : gd_H) : go gd_P0 d 41 179 L st h = gs gd_P0 d 41 179 L (i_putR 1 13 182 L st h) := go_eq gd_P0 d 41 179 L st h
theorem x41_182 (d : Nat) (L st : List Value) (h : gd_H) : go gd_P0 d 41 182 L st h = gs gd_P0 d 41 182 L (i_ald 0 183 L st h) := go_eq gd_P0 d 41 182 L st h
theorem x41_183 (d : Nat) (L st : List Value) (h : gd_H) : go gd_P0 d 41 183 L st h = gs gd_P0 d 41 183 L (i_psh (.int 13) 185 L st h) := go_eq gd_P0 d 41 183 L st h
theorem x41_185 (d : Nat) (L st : List Value) (h : gd_H) : go gd_P0 d 41 185 L st h = gs gd_P0 d 41 185 L (i_newa 34 187 L st h) := go_eq gd_P0 d 41 185 L st h
theorem x41_187 (d : Nat) (L st : List Value) (h : gd_H) : go gd_P0 d 41 187 L st h = gs gd_P0 d 41 187 L (i_putR 1 14 190 L st h) := go_eq gd_P0 d 41 187 L st h
theorem x41_190 (d : Nat) (L st : List Value) (h : gd_H) : go gd_P0 d 41 190 L st h = gs gd_P0 d 41 190 L (i_ald 0 191 L st h) := go_eq gd_P0 d 41 190 L st h
theorem x41_191 (d : Nat) (L st : List Value) (h : gd_H) : go gd_P0 d 41 191 L st h = gs gd_P0 d 41 191 L (i_new 6 8 194 L st h) := go_eq gd_P0 d 41 191 L st h
theorem x41_194 (d : Nat) (L st : List Value) (h : gd_H) : go gd_P0 d 41 194 L st h = gs gd_P0 d 41 194 L (i_dup 195 L st h) := go_eq gd_P0 d 41 194 L st h
theorem x41_195 (d : Nat) (L st : List Value) (h : gd_H) : go gd_P0 d 41 195 L st h = gs gd_P0 d 41 195 L (i_cV 171 0 6 198 L st h) := go_eq gd_P0 d 41 195 L st h
theorem x41_198 (d : Nat) (L st : List Value) (h : gd_H) : go gd_P0 d 41 198 L st h = gs gd_P0 d 41 198 L (i_msk [true] (i_putR 1 15 201) L st h) := go_eq gd_P0 d 41 198 L st h
theorem x41_201 (d : Nat) (L st : List Value) (h : gd_H) : go gd_P0 d 41 201 L st h = gs gd_P0 d 41 201 L (i_ald 0 202 L st h) := go_eq gd_P0 d 41 201 L st h
theorem x41_202 (d : Nat) (L st : List Value) (h : gd_H) : go gd_P0 d 41 202 L st h = gs gd_P0 d 41 202 L (i_psh (.int (-1)) 203 L st h) := go_eq gd_P0 d 41 202 L st h
theorem x41_203 (d : Nat) (L st : List Value) (h : gd_H) : go gd_P0 d 41 203 L st h = gs gd_P0 d 41 203 L (i_putI 1 17 206 L st h) := go_eq gd_P0 d 41 203 L st h
theorem x41_206 (d : Nat) (L st : List Value) (h : gd_H) : go gd_P0 d 41 206 L st h = gs gd_P0 d 41 206 L (i_ald 0 207 L st h) := go_eq gd_P0 d 41 206 L st h
theorem x41_207 (d : Nat) (L st : List Value) (h : gd_H) : go gd_P0 d 41 207 L st h = gs gd_P0 d 41 207 L (i_getR 1 2 210 L st h) := go_eq gd_P0 d 41 207 L st h
theorem x41_210 (d : Nat) (L st : List Value) (h : gd_H) : go gd_P0 d 41 210 L st h = gs gd_P0 d 41 210 L (i_cV 145 0 3 213 L st h) := go_eq gd_P0 d 41 210 L st h
theorem x41_213 (d : Nat) (L st : List Value) (h : gd_H) : go gd_P0 d 41 213 L st h = gs gd_P0 d 41 213 L (i_msk [true] (i_ald 0 214) L st h) := go_eq gd_P0 d 41 213 L st h
theorem x41_214 (d : Nat) (L st : List Value) (h : gd_H) : go gd_P0 d 41 214 L st h = gs gd_P0 d 41 214 L (i_getR 1 15 217 L st h) := go_eq gd_P0 d 41 214 L st h
theorem x41_217 (d : Nat) (L st : List Value) (h : gd_H) : go gd_P0 d 41 217 L st h = gs gd_P0 d 41 217 L (i_cV 148 1 4 220 L st h) := go_eq gd_P0 d 41 217 L st h
theorem x41_220 (d : Nat) (L st : List Value) (h : gd_H) : go gd_P0 d 41 220 L st h = gs gd_P0 d 41 220 L (i_msk [false] (i_ret) L st h) := go_eq gd_P0 d 41 220 L st h
theorem s41_0 (d : Nat) (h : gd_H) (v0 : Nat) : go gd_P0 d 41 0 [.ref v0] [] h =
    if 4 ≤ v0 then go gd_P0 d 41 4 [.ref v0] [] h else none :=
  (x41_0 ..).trans ((x41_1 ..).trans ((gs_if ..).trans ((ia9 (by simp)).trans (ic9 (rfl) rfl))))
theorem s41_4 (d : Nat) (h : gd_H) (v0 : Nat) : go gd_P0 d 41 4 [.ref v0] [] h =
    go gd_P0 d 41 10 [.ref v0] [.ref (gS h), .ref v0] (nw h 32 (Int32.toNatClampNeg 600) (Int32.toNatClampNeg 600)) :=
  (x41_4 ..).trans ((x41_5 ..).trans ((x41_8 ..)))
theorem s41_10 (d : Nat) (h : gd_H) (v0 : Nat) (z0 : Nat) (z1 : Nat) : go gd_P0 d 41 10 [.ref v0] [.ref z0, .ref z1] h =
    if gT h z1 = 1 then go gd_P0 d 41 17 [.ref v0] [.ref (gS h), .ref v0] (nw (wR h (up1 (gR h) z1 0 z0)) 2 0 1) else none :=
  (x41_10 ..).trans ((gs_if ..).trans (ic9 ((x41_13 ..).trans ((x41_14 ..))) rfl))
theorem s41_17 (d : Nat) (h : gd_H) (v0 : Nat) (z0 : Nat) (z1 : Nat) : go gd_P0 d 41 17 [.ref v0] [.ref z0, .ref z1] h =
    if gT h z0 = 2 then gc gd_P0 d 41 18 21 [.ref v0] [.ref z0, .ref z1] (run gd_P0 d 134 [.ref z0] h) else none :=
  (x41_17 ..).trans ((x41_18 ..).trans ((gs_if ..).trans ((ia9 (by simp)).trans (ic9 rfl rfl))))
theorem s41_21 (d : Nat) (h : gd_H) (v0 : Nat) (z0 : Nat) (z1 : Nat) : go gd_P0 d 41 21 [.ref v0] [.ref z0, .ref z1] h =
    if gT h z1 = 1 then go gd_P0 d 41 28 [.ref v0] [.ref (gS h), .ref v0] (nw (wR h (up1 (gR h) z1 1 z0)) 3 0 2) else none :=
  (x41_21 ..).trans ((gs_nif ..).trans (ic9 ((x41_24 ..).trans ((x41_25 ..))) rfl))
theorem s41_28 (d : Nat) (h : gd_H) (v0 : Nat) (z0 : Nat) (z1 : Nat) : go gd_P0 d 41 28 [.ref v0] [.ref z0, .ref z1] h =
    if gT h v0 = 1 then if gT h z0 = 3 then gc gd_P0 d 41 33 36 [.ref v0] [.ref z0, .ref z1] (run gd_P0 d 144 [.ref z0, .ref (gR h v0 1)] h) else none else none :=
  (x41_28 ..).trans ((x41_29 ..).trans ((x41_30 ..).trans ((gs_if ..).trans (ic9 ((x41_33 ..).trans ((gs_if ..).trans ((ia9 (by simp)).trans (ic9 rfl rfl)))) rfl))))
theorem s41_36 (d : Nat) (h : gd_H) (v0 : Nat) (z0 : Nat) (z1 : Nat) : go gd_P0 d 41 36 [.ref v0] [.ref z0, .ref z1] h =
    if gT h z1 = 1 then go gd_P0 d 41 44 [.ref v0] [.ref (gS h), .ref v0] (nw (wR h (up1 (gR h) z1 2 z0)) 36 (Int32.toNatClampNeg 3) (Int32.toNatClampNeg 3)) else none :=
  (x41_36 ..).trans ((gs_nif ..).trans (ic9 ((x41_39 ..).trans ((x41_40 ..).trans ((x41_41 ..)))) rfl))
theorem s41_44 (d : Nat) (h : gd_H) (v0 : Nat) (z0 : Nat) (z1 : Nat) : go gd_P0 d 41 44 [.ref v0] [.ref z0, .ref z1] h =
    go gd_P0 d 41 49 [.ref v0] [.ref (gS h), .int 0, .ref z0, .ref z0, .ref z1] (nw h 3 0 2) :=
  (x41_44 ..).trans ((x41_45 ..).trans ((x41_46 ..)))
theorem s41_49 (d : Nat) (h : gd_H) (v0 : Nat) (z0 : Nat) (z1 : Int32) (z2 : Nat) (z3 : Nat) (z4 : Nat) : go gd_P0 d 41 49 [.ref v0] [.ref z0, .int z1, .ref z2, .ref z3, .ref z4] h =
    if gT h v0 = 1 then if gT h z0 = 3 then gc gd_P0 d 41 54 57 [.ref v0] [.ref z0, .int z1, .ref z2, .ref z3, .ref z4] (run gd_P0 d 144 [.ref z0, .ref (gR h v0 1)] h) else none else none :=
  (x41_49 ..).trans ((x41_50 ..).trans ((x41_51 ..).trans ((gs_if ..).trans (ic9 ((x41_54 ..).trans ((gs_if ..).trans ((ia9 (by simp)).trans (ic9 rfl rfl)))) rfl))))
theorem s41_57 (d : Nat) (h : gd_H) (v0 : Nat) (z0 : Nat) (z1 : Int32) (z2 : Nat) (z3 : Nat) (z4 : Nat) : go gd_P0 d 41 57 [.ref v0] [.ref z0, .int z1, .ref z2, .ref z3, .ref z4] h =
    if gT h z2 = 36 ∧ (gT h z0 ∈ ([3] : List Nat) ∧ ¬ (z1 < 0 ∨ gL h z2 ≤ Int32.toNatClampNeg z1)) then go gd_P0 d 41 63 [.ref v0] [.ref (gS h), .int 1, .ref z3, .ref z3, .ref z4] (nw (wR h (up1 (gR h) z2 (Int32.toNatClampNeg z1) z0)) 3 0 2) else none :=
  (x41_57 ..).trans ((gs_nif ..).trans (ic9 ((x41_58 ..).trans ((x41_59 ..).trans ((x41_60 ..)))) rfl))
theorem s41_63 (d : Nat) (h : gd_H) (v0 : Nat) (z0 : Nat) (z1 : Int32) (z2 : Nat) (z3 : Nat) (z4 : Nat) : go gd_P0 d 41 63 [.ref v0] [.ref z0, .int z1, .ref z2, .ref z3, .ref z4] h =
    if gT h v0 = 1 then if gT h z0 = 3 then gc gd_P0 d 41 68 71 [.ref v0] [.ref z0, .int z1, .ref z2, .ref z3, .ref z4] (run gd_P0 d 144 [.ref z0, .ref (gR h v0 1)] h) else none else none :=
  (x41_63 ..).trans ((x41_64 ..).trans ((x41_65 ..).trans ((gs_if ..).trans (ic9 ((x41_68 ..).trans ((gs_if ..).trans ((ia9 (by simp)).trans (ic9 rfl rfl)))) rfl))))
theorem s41_71 (d : Nat) (h : gd_H) (v0 : Nat) (z0 : Nat) (z1 : Int32) (z2 : Nat) (z3 : Nat) (z4 : Nat) : go gd_P0 d 41 71 [.ref v0] [.ref z0, .int z1, .ref z2, .ref z3, .ref z4] h =
    if gT h z2 = 36 ∧ (gT h z0 ∈ ([3] : List Nat) ∧ ¬ (z1 < 0 ∨ gL h z2 ≤ Int32.toNatClampNeg z1)) then go gd_P0 d 41 77 [.ref v0] [.ref (gS h), .int 2, .ref z3, .ref z3, .ref z4] (nw (wR h (up1 (gR h) z2 (Int32.toNatClampNeg z1) z0)) 3 0 2) else none :=
  (x41_71 ..).trans ((gs_nif ..).trans (ic9 ((x41_72 ..).trans ((x41_73 ..).trans ((x41_74 ..)))) rfl))
theorem s41_77 (d : Nat) (h : gd_H) (v0 : Nat) (z0 : Nat) (z1 : Int32) (z2 : Nat) (z3 : Nat) (z4 : Nat) : go gd_P0 d 41 77 [.ref v0] [.ref z0, .int z1, .ref z2, .ref z3, .ref z4] h =
    if gT h v0 = 1 then if gT h z0 = 3 then gc gd_P0 d 41 82 85 [.ref v0] [.ref z0, .int z1, .ref z2, .ref z3, .ref z4] (run gd_P0 d 144 [.ref z0, .ref (gR h v0 1)] h) else none else none :=
  (x41_77 ..).trans ((x41_78 ..).trans ((x41_79 ..).trans ((gs_if ..).trans (ic9 ((x41_82 ..).trans ((gs_if ..).trans ((ia9 (by simp)).trans (ic9 rfl rfl)))) rfl))))
theorem s41_85 (d : Nat) (h : gd_H) (v0 : Nat) (z0 : Nat) (z1 : Int32) (z2 : Nat) (z3 : Nat) (z4 : Nat) : go gd_P0 d 41 85 [.ref v0] [.ref z0, .int z1, .ref z2, .ref z3, .ref z4] h =
    if gT h z2 = 36 ∧ (gT h z0 ∈ ([3] : List Nat) ∧ ¬ (z1 < 0 ∨ gL h z2 ≤ Int32.toNatClampNeg z1)) then if gT h z4 = 1 then go gd_P0 d 41 93 [.ref v0] [.ref (gS h), .ref v0] (nw (wR h (up1 (up1 (gR h) z2 (Int32.toNatClampNeg z1) z0) z4 3 z3)) 4 0 14) else none else none :=
  (x41_85 ..).trans ((gs_nif ..).trans (ic9 ((x41_86 ..).trans ((gs_if ..).trans (ic9 ((x41_89 ..).trans ((x41_90 ..))) rfl))) rfl))
theorem s41_93 (d : Nat) (h : gd_H) (v0 : Nat) (z0 : Nat) (z1 : Nat) : go gd_P0 d 41 93 [.ref v0] [.ref z0, .ref z1] h =
    if gT h v0 = 1 then if gT h z0 = 4 then gc gd_P0 d 41 98 101 [.ref v0] [.ref z0, .ref z1] (run gd_P0 d 147 [.ref z0, .ref (gR h v0 1)] h) else none else none :=
  (x41_93 ..).trans ((x41_94 ..).trans ((x41_95 ..).trans ((gs_if ..).trans (ic9 ((x41_98 ..).trans ((gs_if ..).trans ((ia9 (by simp)).trans (ic9 rfl rfl)))) rfl))))
theorem s41_101 (d : Nat) (h : gd_H) (v0 : Nat) (z0 : Nat) (z1 : Nat) : go gd_P0 d 41 101 [.ref v0] [.ref z0, .ref z1] h =
    if gT h z1 = 1 then go gd_P0 d 41 108 [.ref v0] [.ref (gS h), .ref v0] (nw (wR h (up1 (gR h) z1 4 z0)) 7 0 4) else none :=
  (x41_101 ..).trans ((gs_nif ..).trans (ic9 ((x41_104 ..).trans ((x41_105 ..))) rfl))
theorem s41_108 (d : Nat) (h : gd_H) (v0 : Nat) (z0 : Nat) (z1 : Nat) : go gd_P0 d 41 108 [.ref v0] [.ref z0, .ref z1] h =
    if gT h z0 = 7 then gc gd_P0 d 41 109 112 [.ref v0] [.ref z0, .ref z1] (run gd_P0 d 172 [.ref z0] h) else none :=
  (x41_108 ..).trans ((x41_109 ..).trans ((gs_if ..).trans ((ia9 (by simp)).trans (ic9 rfl rfl))))
theorem s41_112 (d : Nat) (h : gd_H) (v0 : Nat) (z0 : Nat) (z1 : Nat) : go gd_P0 d 41 112 [.ref v0] [.ref z0, .ref z1] h =
    if gT h z1 = 1 then go gd_P0 d 41 119 [.ref v0] [.ref (gS h), .ref v0] (nw (wR h (up1 (gR h) z1 5 z0)) 5 0 8) else none :=
  (x41_112 ..).trans ((gs_nif ..).trans (ic9 ((x41_115 ..).trans ((x41_116 ..))) rfl))
theorem s41_119 (d : Nat) (h : gd_H) (v0 : Nat) (z0 : Nat) (z1 : Nat) : go gd_P0 d 41 119 [.ref v0] [.ref z0, .ref z1] h =
    if gT h z0 = 5 then gc gd_P0 d 41 120 123 [.ref v0] [.ref z0, .ref z1] (run gd_P0 d 169 [.ref z0] h) else none :=
  (x41_119 ..).trans ((x41_120 ..).trans ((gs_if ..).trans ((ia9 (by simp)).trans (ic9 rfl rfl))))
theorem s41_123 (d : Nat) (h : gd_H) (v0 : Nat) (z0 : Nat) (z1 : Nat) : go gd_P0 d 41 123 [.ref v0] [.ref z0, .ref z1] h =
    if gT h z1 = 1 then go gd_P0 d 41 130 [.ref v0] [.ref (gS h), .ref v0] (nw (wR h (up1 (gR h) z1 6 z0)) 31 (Int32.toNatClampNeg 2) (Int32.toNatClampNeg 2)) else none :=
  (x41_123 ..).trans ((gs_nif ..).trans (ic9 ((x41_126 ..).trans ((x41_127 ..).trans ((x41_128 ..)))) rfl))
theorem s41_130 (d : Nat) (h : gd_H) (v0 : Nat) (z0 : Nat) (z1 : Nat) : go gd_P0 d 41 130 [.ref v0] [.ref z0, .ref z1] h =
    if gT h z1 = 1 then go gd_P0 d 41 138 [.ref v0] [.ref (gS h), .ref v0] (nw (wR h (up1 (gR h) z1 7 z0)) 31 (Int32.toNatClampNeg 6) (Int32.toNatClampNeg 6)) else none :=
  (x41_130 ..).trans ((gs_if ..).trans (ic9 ((x41_133 ..).trans ((x41_134 ..).trans ((x41_136 ..)))) rfl))
theorem s41_138 (d : Nat) (h : gd_H) (v0 : Nat) (z0 : Nat) (z1 : Nat) : go gd_P0 d 41 138 [.ref v0] [.ref z0, .ref z1] h =
    if gT h z1 = 1 then go gd_P0 d 41 146 [.ref v0] [.ref (gS h), .ref v0] (nw (wR h (up1 (gR h) z1 8 z0)) 31 (Int32.toNatClampNeg 6) (Int32.toNatClampNeg 6)) else none :=
  (x41_138 ..).trans ((gs_if ..).trans (ic9 ((x41_141 ..).trans ((x41_142 ..).trans ((x41_144 ..)))) rfl))
theorem s41_146 (d : Nat) (h : gd_H) (v0 : Nat) (z0 : Nat) (z1 : Nat) : go gd_P0 d 41 146 [.ref v0] [.ref z0, .ref z1] h =
    if gT h z1 = 1 then go gd_P0 d 41 154 [.ref v0] [.ref (gS h), .ref v0] (nw (wR h (up1 (gR h) z1 9 z0)) 31 (Int32.toNatClampNeg 13) (Int32.toNatClampNeg 13)) else none :=
  (x41_146 ..).trans ((gs_if ..).trans (ic9 ((x41_149 ..).trans ((x41_150 ..).trans ((x41_152 ..)))) rfl))
theorem s41_154 (d : Nat) (h : gd_H) (v0 : Nat) (z0 : Nat) (z1 : Nat) : go gd_P0 d 41 154 [.ref v0] [.ref z0, .ref z1] h =
    if gT h z1 = 1 then go gd_P0 d 41 163 [.ref v0] [.ref (gS h), .ref v0] (nw (wR h (up1 (gR h) z1 10 z0)) 31 (Int32.toNatClampNeg 1000) (Int32.toNatClampNeg 1000)) else none :=
  (x41_154 ..).trans ((gs_if ..).trans (ic9 ((x41_157 ..).trans ((x41_158 ..).trans ((x41_161 ..)))) rfl))
theorem s41_163 (d : Nat) (h : gd_H) (v0 : Nat) (z0 : Nat) (z1 : Nat) : go gd_P0 d 41 163 [.ref v0] [.ref z0, .ref z1] h =
    if gT h z1 = 1 then go gd_P0 d 41 171 [.ref v0] [.ref (gS h), .ref v0] (nw (wR h (up1 (gR h) z1 11 z0)) 31 (Int32.toNatClampNeg 7) (Int32.toNatClampNeg 7)) else none :=
  (x41_163 ..).trans ((gs_if ..).trans (ic9 ((x41_166 ..).trans ((x41_167 ..).trans ((x41_169 ..)))) rfl))
theorem s41_171 (d : Nat) (h : gd_H) (v0 : Nat) (z0 : Nat) (z1 : Nat) : go gd_P0 d 41 171 [.ref v0] [.ref z0, .ref z1] h =
    if gT h z1 = 1 then go gd_P0 d 41 179 [.ref v0] [.ref (gS h), .ref v0] (nw (wR h (up1 (gR h) z1 12 z0)) 31 (Int32.toNatClampNeg 7) (Int32.toNatClampNeg 7)) else none :=
  (x41_171 ..).trans ((gs_if ..).trans (ic9 ((x41_174 ..).trans ((x41_175 ..).trans ((x41_177 ..)))) rfl))
theorem s41_179 (d : Nat) (h : gd_H) (v0 : Nat) (z0 : Nat) (z1 : Nat) : go gd_P0 d 41 179 [.ref v0] [.ref z0, .ref z1] h =
    if gT h z1 = 1 then go gd_P0 d 41 187 [.ref v0] [.ref (gS h), .ref v0] (nw (wR h (up1 (gR h) z1 13 z0)) 34 (Int32.toNatClampNeg 13) (Int32.toNatClampNeg 13)) else none :=
  (x41_179 ..).trans ((gs_if ..).trans (ic9 ((x41_182 ..).trans ((x41_183 ..).trans ((x41_185 ..)))) rfl))
theorem s41_187 (d : Nat) (h : gd_H) (v0 : Nat) (z0 : Nat) (z1 : Nat) : go gd_P0 d 41 187 [.ref v0] [.ref z0, .ref z1] h =
    if gT h z1 = 1 then go gd_P0 d 41 194 [.ref v0] [.ref (gS h), .ref v0] (nw (wR h (up1 (gR h) z1 14 z0)) 6 0 8) else none :=
  (x41_187 ..).trans ((gs_if ..).trans (ic9 ((x41_190 ..).trans ((x41_191 ..))) rfl))
theorem s41_194 (d : Nat) (h : gd_H) (v0 : Nat) (z0 : Nat) (z1 : Nat) : go gd_P0 d 41 194 [.ref v0] [.ref z0, .ref z1] h =
    if gT h z0 = 6 then gc gd_P0 d 41 195 198 [.ref v0] [.ref z0, .ref z1] (run gd_P0 d 171 [.ref z0] h) else none :=
  (x41_194 ..).trans ((x41_195 ..).trans ((gs_if ..).trans ((ia9 (by simp)).trans (ic9 rfl rfl))))
theorem s41_198 (d : Nat) (h : gd_H) (v0 : Nat) (z0 : Nat) (z1 : Nat) : go gd_P0 d 41 198 [.ref v0] [.ref z0, .ref z1] h =
    if gT h z1 = 1 then if gT h v0 = 1 then if gT h v0 = 1 then if gT h ((up1 (gR h) z1 15 z0) v0 2) = 3 then gc gd_P0 d 41 210 213 [.ref v0] [] (run gd_P0 d 145 [.ref ((up1 (gR h) z1 15 z0) v0 2)] (wR (wI h (up1 (gI h) v0 17 (-1))) (up1 (gR h) z1 15 z0))) else none else none else none else none :=
  (x41_198 ..).trans ((gs_nif ..).trans (ic9 ((x41_201 ..).trans ((x41_202 ..).trans ((x41_203 ..).trans ((gs_if ..).trans (ic9 ((x41_206 ..).trans ((x41_207 ..).trans ((gs_if ..).trans (ic9 ((x41_210 ..).trans ((gs_if ..).trans ((ia9 (by simp)).trans (ic9 rfl rfl)))) rfl)))) rfl))))) rfl))
theorem s41_213 (d : Nat) (h : gd_H) (v0 : Nat) (z0 : Nat) : go gd_P0 d 41 213 [.ref v0] [.ref z0] h =
    if gT h v0 = 1 then if gT h z0 = 4 then gc gd_P0 d 41 217 220 [.ref v0] [] (run gd_P0 d 148 [.ref z0, .ref (gR h v0 15)] h) else none else none :=
  (x41_213 ..).trans ((x41_214 ..).trans ((gs_if ..).trans (ic9 ((x41_217 ..).trans ((gs_if ..).trans ((ia9 (by simp)).trans (ic9 rfl rfl)))) rfl)))
theorem s41_220 (d : Nat) (h : gd_H) (w0 : Value) : go gd_P0 d 41 220 [w0] [] h =
    some (.inl none, h) :=
  (x41_220 ..)
theorem r41 (d : Nat) (h : gd_H) (v0 : Nat) : run gd_P0 (d + 1) 41 [.ref v0] h = go gd_P0 d 41 0 [.ref v0] [] h := run_succ gd_P0 d 41 [.ref v0] h (Nat.le_of_ble_eq_true rfl)
theorem x42_0 (d : Nat) (L st : List Value) (h : gd_H) : go gd_P0 d 42 0 L st h = gs gd_P0 d 42 0 L (i_ald 0 1 L st h) := go_eq gd_P0 d 42 0 L st h
theorem x42_1 (d : Nat) (L st : List Value) (h : gd_H) : go gd_P0 d 42 1 L st h = gs gd_P0 d 42 1 L (i_getI 1 16 4 L st h) := go_eq gd_P0 d 42 1 L st h
theorem x42_4 (d : Nat) (L st : List Value) (h : gd_H) : go gd_P0 d 42 4 L st h = gs gd_P0 d 42 4 L (i_psh (.int 20) 6 L st h) := go_eq gd_P0 d 42 4 L st h
theorem x42_6 (d : Nat) (L st : List Value) (h : gd_H) : go gd_P0 d 42 6 L st h = gs gd_P0 d 42 6 L (i_iadd 7 L st h) := go_eq gd_P0 d 42 6 L st h
theorem x42_7 (d : Nat) (L st : List Value) (h : gd_H) : go gd_P0 d 42 7 L st h = gs gd_P0 d 42 7 L (i_psh (.int 600) 10 L st h) := go_eq gd_P0 d 42 7 L st h
theorem x42_10 (d : Nat) (L st : List Value) (h : gd_H) : go gd_P0 d 42 10 L st h = gs gd_P0 d 42 10 L (i_icle 15 13 L st h) := go_eq gd_P0 d 42 10 L st h
theorem x42_13 (d : Nat) (L st : List Value) (h : gd_H) : go gd_P0 d 42 13 L st h = gs gd_P0 d 42 13 L (i_psh (.int (-1)) 14 L st h) := go_eq gd_P0 d 42 13 L st h
theorem x42_14 (d : Nat) (L st : List Value) (h : gd_H) : go gd_P0 d 42 14 L st h = gs gd_P0 d 42 14 L (i_iret L st h) := go_eq gd_P0 d 42 14 L st h
theorem x42_15 (d : Nat) (L st : List Value) (h : gd_H) : go gd_P0 d 42 15 L st h = gs gd_P0 d 42 15 L (i_psh (.int 5) 16 L st h) := go_eq gd_P0 d 42 15 L st h
theorem x42_16 (d : Nat) (L st : List Value) (h : gd_H) : go gd_P0 d 42 16 L st h = gs gd_P0 d 42 16 L (i_newa 31 18 L st h) := go_eq gd_P0 d 42 16 L st h
theorem x42_18 (d : Nat) (L st : List Value) (h : gd_H) : go gd_P0 d 42 18 L st h = gs gd_P0 d 42 18 L (i_dup 19 L st h) := go_eq gd_P0 d 42 18 L st h
theorem x42_19 (d : Nat) (L st : List Value) (h : gd_H) : go gd_P0 d 42 19 L st h = gs gd_P0 d 42 19 L (i_psh (.int 0) 20 L st h) := go_eq gd_P0 d 42 19 L st h
theorem x42_20 (d : Nat) (L st : List Value) (h : gd_H) : go gd_P0 d 42 20 L st h = gs gd_P0 d 42 20 L (i_ild 1 21 L st h) := go_eq gd_P0 d 42 20 L st h
theorem x42_21 (d : Nat) (L st : List Value) (h : gd_H) : go gd_P0 d 42 21 L st h = gs gd_P0 d 42 21 L (i_astI 22 L st h) := go_eq gd_P0 d 42 21 L st h
theorem x42_22 (d : Nat) (L st : List Value) (h : gd_H) : go gd_P0 d 42 22 L st h = gs gd_P0 d 42 22 L (i_dup 23 L st h) := go_eq gd_P0 d 42 22 L st h
theorem x42_23 (d : Nat) (L st : List Value) (h : gd_H) : go gd_P0 d 42 23 L st h = gs gd_P0 d 42 23 L (i_psh (.int 1) 24 L st h) := go_eq gd_P0 d 42 23 L st h
theorem x42_24 (d : Nat) (L st : List Value) (h : gd_H) : go gd_P0 d 42 24 L st h = gs gd_P0 d 42 24 L (i_ild 2 25 L st h) := go_eq gd_P0 d 42 24 L st h
theorem x42_25 (d : Nat) (L st : List Value) (h : gd_H) : go gd_P0 d 42 25 L st h = gs gd_P0 d 42 25 L (i_astI 26 L st h) := go_eq gd_P0 d 42 25 L st h
theorem x42_26 (d : Nat) (L st : List Value) (h : gd_H) : go gd_P0 d 42 26 L st h = gs gd_P0 d 42 26 L (i_dup 27 L st h) := go_eq gd_P0 d 42 26 L st h
theorem x42_27 (d : Nat) (L st : List Value) (h : gd_H) : go gd_P0 d 42 27 L st h = gs gd_P0 d 42 27 L (i_psh (.int 2) 28 L st h) := go_eq gd_P0 d 42 27 L st h
theorem x42_28 (d : Nat) (L st : List Value) (h : gd_H) : go gd_P0 d 42 28 L st h = gs gd_P0 d 42 28 L (i_ild 3 29 L st h) := go_eq gd_P0 d 42 28 L st h
theorem x42_29 (d : Nat) (L st : List Value) (h : gd_H) : go gd_P0 d 42 29 L st h = gs gd_P0 d 42 29 L (i_astI 30 L st h) := go_eq gd_P0 d 42 29 L st h
theorem x42_30 (d : Nat) (L st : List Value) (h : gd_H) : go gd_P0 d 42 30 L st h = gs gd_P0 d 42 30 L (i_dup 31 L st h) := go_eq gd_P0 d 42 30 L st h
theorem x42_31 (d : Nat) (L st : List Value) (h : gd_H) : go gd_P0 d 42 31 L st h = gs gd_P0 d 42 31 L (i_psh (.int 3) 32 L st h) := go_eq gd_P0 d 42 31 L st h
theorem x42_32 (d : Nat) (L st : List Value) (h : gd_H) : go gd_P0 d 42 32 L st h = gs gd_P0 d 42 32 L (i_ild 4 34 L st h) := go_eq gd_P0 d 42 32 L st h
theorem x42_34 (d : Nat) (L st : List Value) (h : gd_H) : go gd_P0 d 42 34 L st h = gs gd_P0 d 42 34 L (i_astI 35 L st h) := go_eq gd_P0 d 42 34 L st h
theorem x42_35 (d : Nat) (L st : List Value) (h : gd_H) : go gd_P0 d 42 35 L st h = gs gd_P0 d 42 35 L (i_dup 36 L st h) := go_eq gd_P0 d 42 35 L st h
theorem x42_36 (d : Nat) (L st : List Value) (h : gd_H) : go gd_P0 d 42 36 L st h = gs gd_P0 d 42 36 L (i_psh (.int 4) 37 L st h) := go_eq gd_P0 d 42 36 L st h
theorem x42_37 (d : Nat) (L st : List Value) (h : gd_H) : go gd_P0 d 42 37 L st h = gs gd_P0 d 42 37 L (i_ild 5 39 L st h) := go_eq gd_P0 d 42 37 L st h
theorem x42_39 (d : Nat) (L st : List Value) (h : gd_H) : go gd_P0 d 42 39 L st h = gs gd_P0 d 42 39 L (i_astI 40 L st h) := go_eq gd_P0 d 42 39 L st h
theorem x42_40 (d : Nat) (L st : List Value) (h : gd_H) : go gd_P0 d 42 40 L st h = gs gd_P0 d 42 40 L (i_ast 6 42 L st h) := go_eq gd_P0 d 42 40 L st h
theorem x42_42 (d : Nat) (L st : List Value) (h : gd_H) : go gd_P0 d 42 42 L st h = gs gd_P0 d 42 42 L (i_psh (.int 0) 43 L st h) := go_eq gd_P0 d 42 42 L st h
theorem x42_43 (d : Nat) (L st : List Value) (h : gd_H) : go gd_P0 d 42 43 L st h = gs gd_P0 d 42 43 L (i_ist 7 45 L st h) := go_eq gd_P0 d 42 43 L st h
theorem x42_45 (d : Nat) (L st : List Value) (h : gd_H) : go gd_P0 d 42 45 L st h = gs gd_P0 d 42 45 L (i_msk [true, false, false, false, false, false, true, true] (i_ild 7 47) L st h) := go_eq gd_P0 d 42 45 L st h
theorem x42_47 (d : Nat) (L st : List Value) (h : gd_H) : go gd_P0 d 42 47 L st h = gs gd_P0 d 42 47 L (i_psh (.int 20) 49 L st h) := go_eq gd_P0 d 42 47 L st h
theorem x42_49 (d : Nat) (L st : List Value) (h : gd_H) : go gd_P0 d 42 49 L st h = gs gd_P0 d 42 49 L (i_icge 93 52 L st h) := go_eq gd_P0 d 42 49 L st h
theorem x42_52 (d : Nat) (L st : List Value) (h : gd_H) : go gd_P0 d 42 52 L st h = gs gd_P0 d 42 52 L (i_ald 0 53 L st h) := go_eq gd_P0 d 42 52 L st h
theorem x42_53 (d : Nat) (L st : List Value) (h : gd_H) : go gd_P0 d 42 53 L st h = gs gd_P0 d 42 53 L (i_getR 1 0 56 L st h) := go_eq gd_P0 d 42 53 L st h
theorem x42_56 (d : Nat) (L st : List Value) (h : gd_H) : go gd_P0 d 42 56 L st h = gs gd_P0 d 42 56 L (i_ald 0 57 L st h) := go_eq gd_P0 d 42 56 L st h
theorem x42_57 (d : Nat) (L st : List Value) (h : gd_H) : go gd_P0 d 42 57 L st h = gs gd_P0 d 42 57 L (i_dup 58 L st h) := go_eq gd_P0 d 42 57 L st h
theorem x42_58 (d : Nat) (L st : List Value) (h : gd_H) : go gd_P0 d 42 58 L st h = gs gd_P0 d 42 58 L (i_getI 1 16 61 L st h) := go_eq gd_P0 d 42 58 L st h
theorem x42_61 (d : Nat) (L st : List Value) (h : gd_H) : go gd_P0 d 42 61 L st h = gs gd_P0 d 42 61 L (i_dupx1 62 L st h) := go_eq gd_P0 d 42 61 L st h
theorem x42_62 (d : Nat) (L st : List Value) (h : gd_H) : go gd_P0 d 42 62 L st h = gs gd_P0 d 42 62 L (i_psh (.int 1) 63 L st h) := go_eq gd_P0 d 42 62 L st h
theorem x42_63 (d : Nat) (L st : List Value) (h : gd_H) : go gd_P0 d 42 63 L st h = gs gd_P0 d 42 63 L (i_iadd 64 L st h) := go_eq gd_P0 d 42 63 L st h
theorem x42_64 (d : Nat) (L st : List Value) (h : gd_H) : go gd_P0 d 42 64 L st h = gs gd_P0 d 42 64 L (i_putI 1 16 67 L st h) := go_eq gd_P0 d 42 64 L st h
theorem x42_67 (d : Nat) (L st : List Value) (h : gd_H) : go gd_P0 d 42 67 L st h = gs gd_P0 d 42 67 L (i_ald 6 69 L st h) := go_eq gd_P0 d 42 67 L st h
theorem x42_69 (d : Nat) (L st : List Value) (h : gd_H) : go gd_P0 d 42 69 L st h = gs gd_P0 d 42 69 L (i_ild 7 71 L st h) := go_eq gd_P0 d 42 69 L st h
theorem x42_71 (d : Nat) (L st : List Value) (h : gd_H) : go gd_P0 d 42 71 L st h = gs gd_P0 d 42 71 L (i_psh (.int 4) 72 L st h) := go_eq gd_P0 d 42 71 L st h
theorem x42_72 (d : Nat) (L st : List Value) (h : gd_H) : go gd_P0 d 42 72 L st h = gs gd_P0 d 42 72 L (i_idiv 73 L st h) := go_eq gd_P0 d 42 72 L st h
theorem x42_73 (d : Nat) (L st : List Value) (h : gd_H) : go gd_P0 d 42 73 L st h = gs gd_P0 d 42 73 L (i_aldI 31 74 L st h) := go_eq gd_P0 d 42 73 L st h
theorem x42_74 (d : Nat) (L st : List Value) (h : gd_H) : go gd_P0 d 42 74 L st h = gs gd_P0 d 42 74 L (i_psh (.int 24) 76 L st h) := go_eq gd_P0 d 42 74 L st h
theorem x42_76 (d : Nat) (L st : List Value) (h : gd_H) : go gd_P0 d 42 76 L st h = gs gd_P0 d 42 76 L (i_psh (.int 8) 78 L st h) := go_eq gd_P0 d 42 76 L st h
theorem x42_78 (d : Nat) (L st : List Value) (h : gd_H) : go gd_P0 d 42 78 L st h = gs gd_P0 d 42 78 L (i_ild 7 80 L st h) := go_eq gd_P0 d 42 78 L st h
theorem x42_80 (d : Nat) (L st : List Value) (h : gd_H) : go gd_P0 d 42 80 L st h = gs gd_P0 d 42 80 L (i_psh (.int 4) 81 L st h) := go_eq gd_P0 d 42 80 L st h
theorem x42_81 (d : Nat) (L st : List Value) (h : gd_H) : go gd_P0 d 42 81 L st h = gs gd_P0 d 42 81 L (i_irem 82 L st h) := go_eq gd_P0 d 42 81 L st h
theorem x42_82 (d : Nat) (L st : List Value) (h : gd_H) : go gd_P0 d 42 82 L st h = gs gd_P0 d 42 82 L (i_imul 83 L st h) := go_eq gd_P0 d 42 82 L st h
theorem x42_83 (d : Nat) (L st : List Value) (h : gd_H) : go gd_P0 d 42 83 L st h = gs gd_P0 d 42 83 L (i_isub 84 L st h) := go_eq gd_P0 d 42 83 L st h
theorem x42_84 (d : Nat) (L st : List Value) (h : gd_H) : go gd_P0 d 42 84 L st h = gs gd_P0 d 42 84 L (i_ishr 85 L st h) := go_eq gd_P0 d 42 84 L st h
theorem x42_85 (d : Nat) (L st : List Value) (h : gd_H) : go gd_P0 d 42 85 L st h = gs gd_P0 d 42 85 L (i_i2b 86 L st h) := go_eq gd_P0 d 42 85 L st h
theorem x42_86 (d : Nat) (L st : List Value) (h : gd_H) : go gd_P0 d 42 86 L st h = gs gd_P0 d 42 86 L (i_astB 87 L st h) := go_eq gd_P0 d 42 86 L st h
theorem x42_87 (d : Nat) (L st : List Value) (h : gd_H) : go gd_P0 d 42 87 L st h = gs gd_P0 d 42 87 L (i_inc 7 1 90 L st h) := go_eq gd_P0 d 42 87 L st h
theorem x42_90 (d : Nat) (L st : List Value) (h : gd_H) : go gd_P0 d 42 90 L st h = gs gd_P0 d 42 90 L (i_goto 45 L st h) := go_eq gd_P0 d 42 90 L st h
theorem x42_93 (d : Nat) (L st : List Value) (h : gd_H) : go gd_P0 d 42 93 L st h = gs gd_P0 d 42 93 L (i_ald 0 94 L st h) := go_eq gd_P0 d 42 93 L st h
theorem x42_94 (d : Nat) (L st : List Value) (h : gd_H) : go gd_P0 d 42 94 L st h = gs gd_P0 d 42 94 L (i_getI 1 16 97 L st h) := go_eq gd_P0 d 42 94 L st h
theorem x42_97 (d : Nat) (L st : List Value) (h : gd_H) : go gd_P0 d 42 97 L st h = gs gd_P0 d 42 97 L (i_iret L st h) := go_eq gd_P0 d 42 97 L st h
theorem s42_0 (d : Nat) (h : gd_H) (v0 : Nat) (v1 : Int32) (v2 : Int32) (v3 : Int32) (v4 : Int32) (v5 : Int32) : go gd_P0 d 42 0 [.ref v0, .int v1, .int v2, .int v3, .int v4, .int v5, .null, .null] [] h =
    if gT h v0 = 1 then if ((gI h v0 16) + 20) ≤ 600 then if gT (nw h 31 (Int32.toNatClampNeg 5) (Int32.toNatClampNeg 5)) (gS h) = 31 ∧ ¬ ((0 : Int32) < 0 ∨ gL (nw h 31 (Int32.toNatClampNeg 5) (Int32.toNatClampNeg 5)) (gS h) ≤ Int32.toNatClampNeg (0 : Int32)) then if gT (nw h 31 (Int32.toNatClampNeg 5) (Int32.toNatClampNeg 5)) (gS h) = 31 ∧ ¬ ((1 : Int32) < 0 ∨ gL (nw h 31 (Int32.toNatClampNeg 5) (Int32.toNatClampNeg 5)) (gS h) ≤ Int32.toNatClampNeg (1 : Int32)) then if gT (nw h 31 (Int32.toNatClampNeg 5) (Int32.toNatClampNeg 5)) (gS h) = 31 ∧ ¬ ((2 : Int32) < 0 ∨ gL (nw h 31 (Int32.toNatClampNeg 5) (Int32.toNatClampNeg 5)) (gS h) ≤ Int32.toNatClampNeg (2 : Int32)) then if gT (nw h 31 (Int32.toNatClampNeg 5) (Int32.toNatClampNeg 5)) (gS h) = 31 ∧ ¬ ((3 : Int32) < 0 ∨ gL (nw h 31 (Int32.toNatClampNeg 5) (Int32.toNatClampNeg 5)) (gS h) ≤ Int32.toNatClampNeg (3 : Int32)) then if gT (nw h 31 (Int32.toNatClampNeg 5) (Int32.toNatClampNeg 5)) (gS h) = 31 ∧ ¬ ((4 : Int32) < 0 ∨ gL (nw h 31 (Int32.toNatClampNeg 5) (Int32.toNatClampNeg 5)) (gS h) ≤ Int32.toNatClampNeg (4 : Int32)) then go gd_P0 d 42 45 [.ref v0, .int v1, .int v2, .int v3, .int v4, .int v5, .ref (gS h), .int 0] [] (wI (nw h 31 (Int32.toNatClampNeg 5) (Int32.toNatClampNeg 5)) (up1 (up1 (up1 (up1 (up1 (gI (nw h 31 (Int32.toNatClampNeg 5) (Int32.toNatClampNeg 5))) (gS h) (Int32.toNatClampNeg (0 : Int32)) v1) (gS h) (Int32.toNatClampNeg (1 : Int32)) v2) (gS h) (Int32.toNatClampNeg (2 : Int32)) v3) (gS h) (Int32.toNatClampNeg (3 : Int32)) v4) (gS h) (Int32.toNatClampNeg (4 : Int32)) v5)) else none else none else none else none else none else some (.inl (some (.int (-1))), h) else none :=
  (x42_0 ..).trans ((x42_1 ..).trans ((gs_if ..).trans (ic9 ((x42_4 ..).trans ((x42_6 ..).trans ((x42_7 ..).trans ((x42_10 ..).trans ((gs_if ..).trans (ic9 ((x42_15 ..).trans ((x42_16 ..).trans ((x42_18 ..).trans ((x42_19 ..).trans ((x42_20 ..).trans ((x42_21 ..).trans ((gs_if ..).trans (ic9 ((x42_22 ..).trans ((x42_23 ..).trans ((x42_24 ..).trans ((x42_25 ..).trans ((gs_if ..).trans (ic9 ((x42_26 ..).trans ((x42_27 ..).trans ((x42_28 ..).trans ((x42_29 ..).trans ((gs_if ..).trans (ic9 ((x42_30 ..).trans ((x42_31 ..).trans ((x42_32 ..).trans ((x42_34 ..).trans ((gs_if ..).trans (ic9 ((x42_35 ..).trans ((x42_36 ..).trans ((x42_37 ..).trans ((x42_39 ..).trans ((gs_if ..).trans (ic9 ((x42_40 ..).trans ((x42_42 ..).trans ((x42_43 ..)))) rfl)))))) rfl)))))) rfl)))))) rfl)))))) rfl)))))))) ((x42_13 ..).trans ((x42_14 ..))))))))) rfl)))
theorem s42_45 (d : Nat) (h : gd_H) (v0 : Nat) (w1 : Value) (w2 : Value) (w3 : Value) (w4 : Value) (w5 : Value) (v6 : Nat) (v7 : Int32) : go gd_P0 d 42 45 [.ref v0, w1, w2, w3, w4, w5, .ref v6, .int v7] [] h =
    if 20 ≤ v7 then if gT h v0 = 1 then some (.inl (some (.int (gI h v0 16))), h) else none else if gT h v0 = 1 then if gT h v0 = 1 then if gT h v0 = 1 then if gT h v6 = 31 ∧ ¬ ((v7 / 4) < 0 ∨ gL h v6 ≤ Int32.toNatClampNeg (v7 / 4)) then if gT h (gR h v0 0) = 32 ∧ ¬ ((gI h v0 16) < 0 ∨ gL h (gR h v0 0) ≤ Int32.toNatClampNeg (gI h v0 16)) then go gd_P0 d 42 45 [.ref v0, .null, .null, .null, .null, .null, .ref v6, .int (v7 + 1)] [] (wI h (up1 (up1 (gI h) v0 16 ((gI h v0 16) + 1)) (gR h v0 0) (Int32.toNatClampNeg (gI h v0 16)) (Int8.toInt32 (Int32.toInt8 (Int8.toInt32 (Int32.toInt8 (((up1 (gI h) v0 16 ((gI h v0 16) + 1)) v6 (Int32.toNatClampNeg (v7 / 4))) >>> ((24 - (8 * (v7 - v7 / 4 * 4))) &&& 31)))))))) else none else none else none else none else none :=
  (x42_45 ..).trans ((x42_47 ..).trans ((x42_49 ..).trans ((gs_if ..).trans (ic9 ((x42_93 ..).trans ((x42_94 ..).trans ((gs_if ..).trans (ic9 ((x42_97 ..)) rfl)))) ((x42_52 ..).trans ((x42_53 ..).trans ((gs_if ..).trans (ic9 ((x42_56 ..).trans ((x42_57 ..).trans ((x42_58 ..).trans ((gs_if ..).trans (ic9 ((x42_61 ..).trans ((x42_62 ..).trans ((x42_63 ..).trans ((x42_64 ..).trans ((gs_if ..).trans (ic9 ((x42_67 ..).trans ((x42_69 ..).trans ((x42_71 ..).trans ((x42_72 ..).trans ((gs_div (y := (4 : Int32)) (by decide)).trans ((x42_73 ..).trans ((gs_if ..).trans (ic9 ((x42_74 ..).trans ((x42_76 ..).trans ((x42_78 ..).trans ((x42_80 ..).trans ((x42_81 ..).trans ((gs_rem (y := (4 : Int32)) (by decide)).trans ((x42_82 ..).trans ((x42_83 ..).trans ((x42_84 ..).trans ((x42_85 ..).trans ((x42_86 ..).trans ((gs_if ..).trans (ic9 ((x42_87 ..).trans ((x42_90 ..))) rfl))))))))))))) rfl)))))))) rfl)))))) rfl))))) rfl))))))))
theorem r42 (d : Nat) (h : gd_H) (v0 : Nat) (v1 : Int32) (v2 : Int32) (v3 : Int32) (v4 : Int32) (v5 : Int32) : run gd_P0 (d + 1) 42 [.ref v0, .int v1, .int v2, .int v3, .int v4, .int v5] h = go gd_P0 d 42 0 [.ref v0, .int v1, .int v2, .int v3, .int v4, .int v5, .null, .null] [] h := run_succ gd_P0 d 42 [.ref v0, .int v1, .int v2, .int v3, .int v4, .int v5] h (Nat.le_of_ble_eq_true rfl)
theorem x43_0 (d : Nat) (L st : List Value) (h : gd_H) : go gd_P0 d 43 0 L st h = gs gd_P0 d 43 0 L (i_ald 0 1 L st h) := go_eq gd_P0 d 43 0 L st h
theorem x43_1 (d : Nat) (L st : List Value) (h : gd_H) : go gd_P0 d 43 1 L st h = gs gd_P0 d 43 1 L (i_getI 1 17 4 L st h) := go_eq gd_P0 d 43 1 L st h
theorem x43_4 (d : Nat) (L st : List Value) (h : gd_H) : go gd_P0 d 43 4 L st h = gs gd_P0 d 43 4 L (i_iret L st h) := go_eq gd_P0 d 43 4 L st h
theorem s43_0 (d : Nat) (h : gd_H) (v0 : Nat) : go gd_P0 d 43 0 [.ref v0] [] h =
    if gT h v0 = 1 then some (.inl (some (.int (gI h v0 17))), h) else none :=
  (x43_0 ..).trans ((x43_1 ..).trans ((gs_if ..).trans (ic9 ((x43_4 ..)) rfl)))
theorem r43 (d : Nat) (h : gd_H) (v0 : Nat) : run gd_P0 (d + 1) 43 [.ref v0] h = go gd_P0 d 43 0 [.ref v0] [] h := run_succ gd_P0 d 43 [.ref v0] h (Nat.le_of_ble_eq_true rfl)
theorem x44_0 (d : Nat) (L st : List Value) (h : gd_H) : go gd_P0 d 44 0 L st h = gs gd_P0 d 44 0 L (i_ald 0 1 L st h) := go_eq gd_P0 d 44 0 L st h
theorem x44_1 (d : Nat) (L st : List Value) (h : gd_H) : go gd_P0 d 44 1 L st h = gs gd_P0 d 44 1 L (i_getR 1 2 4 L st h) := go_eq gd_P0 d 44 1 L st h
theorem x44_4 (d : Nat) (L st : List Value) (h : gd_H) : go gd_P0 d 44 4 L st h = gs gd_P0 d 44 4 L (i_getI 3 1 7 L st h) := go_eq gd_P0 d 44 4 L st h
theorem x44_7 (d : Nat) (L st : List Value) (h : gd_H) : go gd_P0 d 44 7 L st h = gs gd_P0 d 44 7 L (i_ifne 12 10 L st h) := go_eq gd_P0 d 44 7 L st h
theorem x44_10 (d : Nat) (L st : List Value) (h : gd_H) : go gd_P0 d 44 10 L st h = gs gd_P0 d 44 10 L (i_psh (.int (-1)) 11 L st h) := go_eq gd_P0 d 44 10 L st h
theorem x44_11 (d : Nat) (L st : List Value) (h : gd_H) : go gd_P0 d 44 11 L st h = gs gd_P0 d 44 11 L (i_iret L st h) := go_eq gd_P0 d 44 11 L st h
theorem x44_12 (d : Nat) (L st : List Value) (h : gd_H) : go gd_P0 d 44 12 L st h = gs gd_P0 d 44 12 L (i_ald 0 13 L st h) := go_eq gd_P0 d 44 12 L st h
theorem x44_13 (d : Nat) (L st : List Value) (h : gd_H) : go gd_P0 d 44 13 L st h = gs gd_P0 d 44 13 L (i_psh (.int 0) 14 L st h) := go_eq gd_P0 d 44 13 L st h
theorem x44_14 (d : Nat) (L st : List Value) (h : gd_H) : go gd_P0 d 44 14 L st h = gs gd_P0 d 44 14 L (i_putI 1 19 17 L st h) := go_eq gd_P0 d 44 14 L st h
theorem x44_17 (d : Nat) (L st : List Value) (h : gd_H) : go gd_P0 d 44 17 L st h = gs gd_P0 d 44 17 L (i_ald 0 18 L st h) := go_eq gd_P0 d 44 17 L st h
theorem x44_18 (d : Nat) (L st : List Value) (h : gd_H) : go gd_P0 d 44 18 L st h = gs gd_P0 d 44 18 L (i_getR 1 2 21 L st h) := go_eq gd_P0 d 44 18 L st h
theorem x44_21 (d : Nat) (L st : List Value) (h : gd_H) : go gd_P0 d 44 21 L st h = gs gd_P0 d 44 21 L (i_dup 22 L st h) := go_eq gd_P0 d 44 21 L st h
theorem x44_22 (d : Nat) (L st : List Value) (h : gd_H) : go gd_P0 d 44 22 L st h = gs gd_P0 d 44 22 L (i_getI 3 1 25 L st h) := go_eq gd_P0 d 44 22 L st h
theorem x44_25 (d : Nat) (L st : List Value) (h : gd_H) : go gd_P0 d 44 25 L st h = gs gd_P0 d 44 25 L (i_psh (.int 1) 26 L st h) := go_eq gd_P0 d 44 25 L st h
theorem x44_26 (d : Nat) (L st : List Value) (h : gd_H) : go gd_P0 d 44 26 L st h = gs gd_P0 d 44 26 L (i_isub 27 L st h) := go_eq gd_P0 d 44 26 L st h
theorem x44_27 (d : Nat) (L st : List Value) (h : gd_H) : go gd_P0 d 44 27 L st h = gs gd_P0 d 44 27 L (i_dupx1 28 L st h) := go_eq gd_P0 d 44 27 L st h
theorem x44_28 (d : Nat) (L st : List Value) (h : gd_H) : go gd_P0 d 44 28 L st h = gs gd_P0 d 44 28 L (i_putI 3 1 31 L st h) := go_eq gd_P0 d 44 28 L st h
theorem x44_31 (d : Nat) (L st : List Value) (h : gd_H) : go gd_P0 d 44 31 L st h = gs gd_P0 d 44 31 L (i_iret L st h) := go_eq gd_P0 d 44 31 L st h
theorem s44_0 (d : Nat) (h : gd_H) (v0 : Nat) : go gd_P0 d 44 0 [.ref v0] [] h =
    if gT h v0 = 1 then if gT h (gR h v0 2) = 3 then if (gI h (gR h v0 2) 1) = 0 then some (.inl (some (.int (-1))), h) else if gT h v0 = 1 then if gT h v0 = 1 then if gT h (gR h v0 2) = 3 then if gT h (gR h v0 2) = 3 then some (.inl (some (.int (((up1 (gI h) v0 19 0) (gR h v0 2) 1) - 1))), (wI h (up1 (up1 (gI h) v0 19 0) (gR h v0 2) 1 (((up1 (gI h) v0 19 0) (gR h v0 2) 1) - 1)))) else none else none else none else none else none else none :=
  (x44_0 ..).trans ((x44_1 ..).trans ((gs_if ..).trans (ic9 ((x44_4 ..).trans ((gs_if ..).trans (ic9 ((x44_7 ..).trans ((gs_if ..).trans (ic9 ((x44_10 ..).trans ((x44_11 ..))) ((x44_12 ..).trans ((x44_13 ..).trans ((x44_14 ..).trans ((gs_if ..).trans (ic9 ((x44_17 ..).trans ((x44_18 ..).trans ((gs_if ..).trans (ic9 ((x44_21 ..).trans ((x44_22 ..).trans ((gs_if ..).trans (ic9 ((x44_25 ..).trans ((x44_26 ..).trans ((x44_27 ..).trans ((x44_28 ..).trans ((gs_if ..).trans (ic9 ((x44_31 ..)) rfl)))))) rfl)))) rfl)))) rfl)))))))) rfl))) rfl)))
theorem r44 (d : Nat) (h : gd_H) (v0 : Nat) : run gd_P0 (d + 1) 44 [.ref v0] h = go gd_P0 d 44 0 [.ref v0] [] h := run_succ gd_P0 d 44 [.ref v0] h (Nat.le_of_ble_eq_true rfl)
theorem x45_0 (d : Nat) (L st : List Value) (h : gd_H) : go gd_P0 d 45 0 L st h = gs gd_P0 d 45 0 L (i_ald 0 1 L st h) := go_eq gd_P0 d 45 0 L st h
theorem x45_1 (d : Nat) (L st : List Value) (h : gd_H) : go gd_P0 d 45 1 L st h = gs gd_P0 d 45 1 L (i_getR 1 5 4 L st h) := go_eq gd_P0 d 45 1 L st h
theorem x45_4 (d : Nat) (L st : List Value) (h : gd_H) : go gd_P0 d 45 4 L st h = gs gd_P0 d 45 4 L (i_ald 0 5 L st h) := go_eq gd_P0 d 45 4 L st h
theorem x45_5 (d : Nat) (L st : List Value) (h : gd_H) : go gd_P0 d 45 5 L st h = gs gd_P0 d 45 5 L (i_getR 1 2 8 L st h) := go_eq gd_P0 d 45 5 L st h
theorem x45_8 (d : Nat) (L st : List Value) (h : gd_H) : go gd_P0 d 45 8 L st h = gs gd_P0 d 45 8 L (i_cV 145 0 3 11 L st h) := go_eq gd_P0 d 45 8 L st h
theorem x45_11 (d : Nat) (L st : List Value) (h : gd_H) : go gd_P0 d 45 11 L st h = gs gd_P0 d 45 11 L (i_msk [true] (i_cV 173 1 7 14) L st h) := go_eq gd_P0 d 45 11 L st h
theorem x45_14 (d : Nat) (L st : List Value) (h : gd_H) : go gd_P0 d 45 14 L st h = gs gd_P0 d 45 14 L (i_msk [true] (i_ald 0 15) L st h) := go_eq gd_P0 d 45 14 L st h
theorem x45_15 (d : Nat) (L st : List Value) (h : gd_H) : go gd_P0 d 45 15 L st h = gs gd_P0 d 45 15 L (i_getR 1 5 18 L st h) := go_eq gd_P0 d 45 15 L st h
theorem x45_18 (d : Nat) (L st : List Value) (h : gd_H) : go gd_P0 d 45 18 L st h = gs gd_P0 d 45 18 L (i_getI 7 3 21 L st h) := go_eq gd_P0 d 45 18 L st h
theorem x45_21 (d : Nat) (L st : List Value) (h : gd_H) : go gd_P0 d 45 21 L st h = gs gd_P0 d 45 21 L (i_iret L st h) := go_eq gd_P0 d 45 21 L st h
theorem s45_0 (d : Nat) (h : gd_H) (v0 : Nat) : go gd_P0 d 45 0 [.ref v0] [] h =
    if gT h v0 = 1 then if gT h v0 = 1 then if gT h (gR h v0 2) = 3 then gc gd_P0 d 45 8 11 [.ref v0] [.ref (gR h v0 5)] (run gd_P0 d 145 [.ref (gR h v0 2)] h) else none else none else none :=
  (x45_0 ..).trans ((x45_1 ..).trans ((gs_if ..).trans (ic9 ((x45_4 ..).trans ((x45_5 ..).trans ((gs_if ..).trans (ic9 ((x45_8 ..).trans ((gs_if ..).trans ((ia9 (by simp)).trans (ic9 rfl rfl)))) rfl)))) rfl)))
theorem s45_11 (d : Nat) (h : gd_H) (v0 : Nat) (z0 : Nat) (z1 : Nat) : go gd_P0 d 45 11 [.ref v0] [.ref z0, .ref z1] h =
    if gT h z1 = 7 then gc gd_P0 d 45 11 14 [.ref v0] [] (run gd_P0 d 173 [.ref z1, .ref z0] h) else none :=
  (x45_11 ..).trans ((gs_nif ..).trans ((ia9 (by simp)).trans (ic9 rfl rfl)))
theorem s45_14 (d : Nat) (h : gd_H) (v0 : Nat) : go gd_P0 d 45 14 [.ref v0] [] h =
    if gT h v0 = 1 then if gT h (gR h v0 5) = 7 then some (.inl (some (.int (gI h (gR h v0 5) 3))), h) else none else none :=
  (x45_14 ..).trans ((x45_15 ..).trans ((gs_if ..).trans (ic9 ((x45_18 ..).trans ((gs_if ..).trans (ic9 ((x45_21 ..)) rfl))) rfl)))
theorem r45 (d : Nat) (h : gd_H) (v0 : Nat) : run gd_P0 (d + 1) 45 [.ref v0] h = go gd_P0 d 45 0 [.ref v0] [] h := run_succ gd_P0 d 45 [.ref v0] h (Nat.le_of_ble_eq_true rfl)
theorem x46_0 (d : Nat) (L st : List Value) (h : gd_H) : go gd_P0 d 46 0 L st h = gs gd_P0 d 46 0 L (i_ald 0 1 L st h) := go_eq gd_P0 d 46 0 L st h
theorem x46_1 (d : Nat) (L st : List Value) (h : gd_H) : go gd_P0 d 46 1 L st h = gs gd_P0 d 46 1 L (i_cV 47 0 1 4 L st h) := go_eq gd_P0 d 46 1 L st h
theorem x46_4 (d : Nat) (L st : List Value) (h : gd_H) : go gd_P0 d 46 4 L st h = gs gd_P0 d 46 4 L (i_msk [false] (i_iret) L st h) := go_eq gd_P0 d 46 4 L st h
theorem s46_0 (d : Nat) (h : gd_H) (v0 : Nat) : go gd_P0 d 46 0 [.ref v0] [] h =
    if gT h v0 = 1 then gc gd_P0 d 46 1 4 [.ref v0] [] (run gd_P0 d 47 [.ref v0] h) else none :=
  (x46_0 ..).trans ((x46_1 ..).trans ((gs_if ..).trans ((ia9 (by simp)).trans (ic9 rfl rfl))))
theorem s46_4 (d : Nat) (h : gd_H) (w0 : Value) (z0 : Int32) : go gd_P0 d 46 4 [w0] [.int z0] h =
    some (.inl (some (.int z0)), h) :=
  (x46_4 ..)
theorem r46 (d : Nat) (h : gd_H) (v0 : Nat) : run gd_P0 (d + 1) 46 [.ref v0] h = go gd_P0 d 46 0 [.ref v0] [] h := run_succ gd_P0 d 46 [.ref v0] h (Nat.le_of_ble_eq_true rfl)
theorem x47_0 (d : Nat) (L st : List Value) (h : gd_H) : go gd_P0 d 47 0 L st h = gs gd_P0 d 47 0 L (i_ald 0 1 L st h) := go_eq gd_P0 d 47 0 L st h
theorem x47_1 (d : Nat) (L st : List Value) (h : gd_H) : go gd_P0 d 47 1 L st h = gs gd_P0 d 47 1 L (i_getR 1 2 4 L st h) := go_eq gd_P0 d 47 1 L st h
theorem x47_4 (d : Nat) (L st : List Value) (h : gd_H) : go gd_P0 d 47 4 L st h = gs gd_P0 d 47 4 L (i_cV 145 0 3 7 L st h) := go_eq gd_P0 d 47 4 L st h
theorem x47_7 (d : Nat) (L st : List Value) (h : gd_H) : go gd_P0 d 47 7 L st h = gs gd_P0 d 47 7 L (i_msk [true, false, false, false, false, false] (i_getR 4 1 10) L st h) := go_eq gd_P0 d 47 7 L st h
theorem x47_10 (d : Nat) (L st : List Value) (h : gd_H) : go gd_P0 d 47 10 L st h = gs gd_P0 d 47 10 L (i_ast 1 11 L st h) := go_eq gd_P0 d 47 10 L st h
theorem x47_11 (d : Nat) (L st : List Value) (h : gd_H) : go gd_P0 d 47 11 L st h = gs gd_P0 d 47 11 L (i_psh (.int 0) 12 L st h) := go_eq gd_P0 d 47 11 L st h
theorem x47_12 (d : Nat) (L st : List Value) (h : gd_H) : go gd_P0 d 47 12 L st h = gs gd_P0 d 47 12 L (i_ist 2 13 L st h) := go_eq gd_P0 d 47 12 L st h
theorem x47_13 (d : Nat) (L st : List Value) (h : gd_H) : go gd_P0 d 47 13 L st h = gs gd_P0 d 47 13 L (i_psh (.int 0) 14 L st h) := go_eq gd_P0 d 47 13 L st h
theorem x47_14 (d : Nat) (L st : List Value) (h : gd_H) : go gd_P0 d 47 14 L st h = gs gd_P0 d 47 14 L (i_ist 3 15 L st h) := go_eq gd_P0 d 47 14 L st h
theorem x47_15 (d : Nat) (L st : List Value) (h : gd_H) : go gd_P0 d 47 15 L st h = gs gd_P0 d 47 15 L (i_ald 0 16 L st h) := go_eq gd_P0 d 47 15 L st h
theorem x47_16 (d : Nat) (L st : List Value) (h : gd_H) : go gd_P0 d 47 16 L st h = gs gd_P0 d 47 16 L (i_getR 1 15 19 L st h) := go_eq gd_P0 d 47 16 L st h
theorem x47_19 (d : Nat) (L st : List Value) (h : gd_H) : go gd_P0 d 47 19 L st h = gs gd_P0 d 47 19 L (i_getI 6 7 22 L st h) := go_eq gd_P0 d 47 19 L st h
theorem x47_22 (d : Nat) (L st : List Value) (h : gd_H) : go gd_P0 d 47 22 L st h = gs gd_P0 d 47 22 L (i_psh (.int 1) 23 L st h) := go_eq gd_P0 d 47 22 L st h
theorem x47_23 (d : Nat) (L st : List Value) (h : gd_H) : go gd_P0 d 47 23 L st h = gs gd_P0 d 47 23 L (i_isub 24 L st h) := go_eq gd_P0 d 47 23 L st h
theorem x47_24 (d : Nat) (L st : List Value) (h : gd_H) : go gd_P0 d 47 24 L st h = gs gd_P0 d 47 24 L (i_ist 4 26 L st h) := go_eq gd_P0 d 47 24 L st h
theorem x47_26 (d : Nat) (L st : List Value) (h : gd_H) : go gd_P0 d 47 26 L st h = gs gd_P0 d 47 26 L (i_msk [true, true, true, true, true, false] (i_ild 4 28) L st h) := go_eq gd_P0 d 47 26 L st h
theorem x47_28 (d : Nat) (L st : List Value) (h : gd_H) : go gd_P0 d 47 28 L st h = gs gd_P0 d 47 28 L (i_iflt 118 31 L st h) := go_eq gd_P0 d 47 28 L st h
theorem x47_31 (d : Nat) (L st : List Value) (h : gd_H) : go gd_P0 d 47 31 L st h = gs gd_P0 d 47 31 L (i_ald 0 32 L st h) := go_eq gd_P0 d 47 31 L st h
theorem x47_32 (d : Nat) (L st : List Value) (h : gd_H) : go gd_P0 d 47 32 L st h = gs gd_P0 d 47 32 L (i_getR 1 12 35 L st h) := go_eq gd_P0 d 47 32 L st h
theorem x47_35 (d : Nat) (L st : List Value) (h : gd_H) : go gd_P0 d 47 35 L st h = gs gd_P0 d 47 35 L (i_ild 4 37 L st h) := go_eq gd_P0 d 47 35 L st h
theorem x47_37 (d : Nat) (L st : List Value) (h : gd_H) : go gd_P0 d 47 37 L st h = gs gd_P0 d 47 37 L (i_psh (.int 1) 38 L st h) := go_eq gd_P0 d 47 37 L st h
theorem x47_38 (d : Nat) (L st : List Value) (h : gd_H) : go gd_P0 d 47 38 L st h = gs gd_P0 d 47 38 L (i_astI 39 L st h) := go_eq gd_P0 d 47 38 L st h
theorem x47_39 (d : Nat) (L st : List Value) (h : gd_H) : go gd_P0 d 47 39 L st h = gs gd_P0 d 47 39 L (i_ild 4 41 L st h) := go_eq gd_P0 d 47 39 L st h
theorem x47_41 (d : Nat) (L st : List Value) (h : gd_H) : go gd_P0 d 47 41 L st h = gs gd_P0 d 47 41 L (i_psh (.int 1) 42 L st h) := go_eq gd_P0 d 47 41 L st h
theorem x47_42 (d : Nat) (L st : List Value) (h : gd_H) : go gd_P0 d 47 42 L st h = gs gd_P0 d 47 42 L (i_iadd 43 L st h) := go_eq gd_P0 d 47 42 L st h
theorem x47_43 (d : Nat) (L st : List Value) (h : gd_H) : go gd_P0 d 47 43 L st h = gs gd_P0 d 47 43 L (i_ist 5 45 L st h) := go_eq gd_P0 d 47 43 L st h
theorem x47_45 (d : Nat) (L st : List Value) (h : gd_H) : go gd_P0 d 47 45 L st h = gs gd_P0 d 47 45 L (i_msk [true, true, true, true, true, true] (i_ild 5 47) L st h) := go_eq gd_P0 d 47 45 L st h
theorem x47_47 (d : Nat) (L st : List Value) (h : gd_H) : go gd_P0 d 47 47 L st h = gs gd_P0 d 47 47 L (i_ald 0 48 L st h) := go_eq gd_P0 d 47 47 L st h
theorem x47_48 (d : Nat) (L st : List Value) (h : gd_H) : go gd_P0 d 47 48 L st h = gs gd_P0 d 47 48 L (i_getR 1 15 51 L st h) := go_eq gd_P0 d 47 48 L st h
theorem x47_51 (d : Nat) (L st : List Value) (h : gd_H) : go gd_P0 d 47 51 L st h = gs gd_P0 d 47 51 L (i_getI 6 7 54 L st h) := go_eq gd_P0 d 47 51 L st h
theorem x47_54 (d : Nat) (L st : List Value) (h : gd_H) : go gd_P0 d 47 54 L st h = gs gd_P0 d 47 54 L (i_icge 100 57 L st h) := go_eq gd_P0 d 47 54 L st h
theorem x47_57 (d : Nat) (L st : List Value) (h : gd_H) : go gd_P0 d 47 57 L st h = gs gd_P0 d 47 57 L (i_ald 1 58 L st h) := go_eq gd_P0 d 47 57 L st h
theorem x47_58 (d : Nat) (L st : List Value) (h : gd_H) : go gd_P0 d 47 58 L st h = gs gd_P0 d 47 58 L (i_ild 5 60 L st h) := go_eq gd_P0 d 47 58 L st h
theorem x47_60 (d : Nat) (L st : List Value) (h : gd_H) : go gd_P0 d 47 60 L st h = gs gd_P0 d 47 60 L (i_aldI 31 61 L st h) := go_eq gd_P0 d 47 60 L st h
theorem x47_61 (d : Nat) (L st : List Value) (h : gd_H) : go gd_P0 d 47 61 L st h = gs gd_P0 d 47 61 L (i_ald 1 62 L st h) := go_eq gd_P0 d 47 61 L st h
theorem x47_62 (d : Nat) (L st : List Value) (h : gd_H) : go gd_P0 d 47 62 L st h = gs gd_P0 d 47 62 L (i_ild 4 64 L st h) := go_eq gd_P0 d 47 62 L st h
theorem x47_64 (d : Nat) (L st : List Value) (h : gd_H) : go gd_P0 d 47 64 L st h = gs gd_P0 d 47 64 L (i_aldI 31 65 L st h) := go_eq gd_P0 d 47 64 L st h
theorem x47_65 (d : Nat) (L st : List Value) (h : gd_H) : go gd_P0 d 47 65 L st h = gs gd_P0 d 47 65 L (i_icle 94 68 L st h) := go_eq gd_P0 d 47 65 L st h
theorem x47_68 (d : Nat) (L st : List Value) (h : gd_H) : go gd_P0 d 47 68 L st h = gs gd_P0 d 47 68 L (i_ald 0 69 L st h) := go_eq gd_P0 d 47 68 L st h
theorem x47_69 (d : Nat) (L st : List Value) (h : gd_H) : go gd_P0 d 47 69 L st h = gs gd_P0 d 47 69 L (i_getR 1 12 72 L st h) := go_eq gd_P0 d 47 69 L st h
theorem x47_72 (d : Nat) (L st : List Value) (h : gd_H) : go gd_P0 d 47 72 L st h = gs gd_P0 d 47 72 L (i_ild 4 74 L st h) := go_eq gd_P0 d 47 72 L st h
theorem x47_74 (d : Nat) (L st : List Value) (h : gd_H) : go gd_P0 d 47 74 L st h = gs gd_P0 d 47 74 L (i_ald 0 75 L st h) := go_eq gd_P0 d 47 74 L st h
theorem x47_75 (d : Nat) (L st : List Value) (h : gd_H) : go gd_P0 d 47 75 L st h = gs gd_P0 d 47 75 L (i_getR 1 12 78 L st h) := go_eq gd_P0 d 47 75 L st h
theorem x47_78 (d : Nat) (L st : List Value) (h : gd_H) : go gd_P0 d 47 78 L st h = gs gd_P0 d 47 78 L (i_ild 4 80 L st h) := go_eq gd_P0 d 47 78 L st h
theorem x47_80 (d : Nat) (L st : List Value) (h : gd_H) : go gd_P0 d 47 80 L st h = gs gd_P0 d 47 80 L (i_aldI 31 81 L st h) := go_eq gd_P0 d 47 80 L st h
theorem x47_81 (d : Nat) (L st : List Value) (h : gd_H) : go gd_P0 d 47 81 L st h = gs gd_P0 d 47 81 L (i_psh (.int 1) 82 L st h) := go_eq gd_P0 d 47 81 L st h
theorem x47_82 (d : Nat) (L st : List Value) (h : gd_H) : go gd_P0 d 47 82 L st h = gs gd_P0 d 47 82 L (i_ald 0 83 L st h) := go_eq gd_P0 d 47 82 L st h
theorem x47_83 (d : Nat) (L st : List Value) (h : gd_H) : go gd_P0 d 47 83 L st h = gs gd_P0 d 47 83 L (i_getR 1 12 86 L st h) := go_eq gd_P0 d 47 83 L st h
theorem x47_86 (d : Nat) (L st : List Value) (h : gd_H) : go gd_P0 d 47 86 L st h = gs gd_P0 d 47 86 L (i_ild 5 88 L st h) := go_eq gd_P0 d 47 86 L st h
theorem x47_88 (d : Nat) (L st : List Value) (h : gd_H) : go gd_P0 d 47 88 L st h = gs gd_P0 d 47 88 L (i_aldI 31 89 L st h) := go_eq gd_P0 d 47 88 L st h
theorem x47_89 (d : Nat) (L st : List Value) (h : gd_H) : go gd_P0 d 47 89 L st h = gs gd_P0 d 47 89 L (i_iadd 90 L st h) := go_eq gd_P0 d 47 89 L st h
theorem x47_90 (d : Nat) (L st : List Value) (h : gd_H) : go gd_P0 d 47 90 L st h = gs gd_P0 d 47 90 L (i_mmax 93 L st h) := go_eq gd_P0 d 47 90 L st h
theorem x47_93 (d : Nat) (L st : List Value) (h : gd_H) : go gd_P0 d 47 93 L st h = gs gd_P0 d 47 93 L (i_msk [true, true, true, true, true, true] (i_astI 94) L st h) := go_eq gd_P0 d 47 93 L st h
theorem x47_94 (d : Nat) (L st : List Value) (h : gd_H) : go gd_P0 d 47 94 L st h = gs gd_P0 d 47 94 L (i_msk [true, true, true, true, true, true] (i_inc 5 1 97) L st h) := go_eq gd_P0 d 47 94 L st h
theorem x47_97 (d : Nat) (L st : List Value) (h : gd_H) : go gd_P0 d 47 97 L st h = gs gd_P0 d 47 97 L (i_goto 45 L st h) := go_eq gd_P0 d 47 97 L st h
theorem x47_100 (d : Nat) (L st : List Value) (h : gd_H) : go gd_P0 d 47 100 L st h = gs gd_P0 d 47 100 L (i_ild 2 101 L st h) := go_eq gd_P0 d 47 100 L st h
theorem x47_101 (d : Nat) (L st : List Value) (h : gd_H) : go gd_P0 d 47 101 L st h = gs gd_P0 d 47 101 L (i_ald 0 102 L st h) := go_eq gd_P0 d 47 101 L st h
theorem x47_102 (d : Nat) (L st : List Value) (h : gd_H) : go gd_P0 d 47 102 L st h = gs gd_P0 d 47 102 L (i_getR 1 12 105 L st h) := go_eq gd_P0 d 47 102 L st h
theorem x47_105 (d : Nat) (L st : List Value) (h : gd_H) : go gd_P0 d 47 105 L st h = gs gd_P0 d 47 105 L (i_ild 4 107 L st h) := go_eq gd_P0 d 47 105 L st h
theorem x47_107 (d : Nat) (L st : List Value) (h : gd_H) : go gd_P0 d 47 107 L st h = gs gd_P0 d 47 107 L (i_aldI 31 108 L st h) := go_eq gd_P0 d 47 107 L st h
theorem x47_108 (d : Nat) (L st : List Value) (h : gd_H) : go gd_P0 d 47 108 L st h = gs gd_P0 d 47 108 L (i_mmax 111 L st h) := go_eq gd_P0 d 47 108 L st h
theorem x47_111 (d : Nat) (L st : List Value) (h : gd_H) : go gd_P0 d 47 111 L st h = gs gd_P0 d 47 111 L (i_msk [true, true, false, true, true, false] (i_ist 2 112) L st h) := go_eq gd_P0 d 47 111 L st h
theorem x47_112 (d : Nat) (L st : List Value) (h : gd_H) : go gd_P0 d 47 112 L st h = gs gd_P0 d 47 112 L (i_inc 4 (-1) 115 L st h) := go_eq gd_P0 d 47 112 L st h
theorem x47_115 (d : Nat) (L st : List Value) (h : gd_H) : go gd_P0 d 47 115 L st h = gs gd_P0 d 47 115 L (i_goto 26 L st h) := go_eq gd_P0 d 47 115 L st h
theorem x47_118 (d : Nat) (L st : List Value) (h : gd_H) : go gd_P0 d 47 118 L st h = gs gd_P0 d 47 118 L (i_psh (.int 0) 119 L st h) := go_eq gd_P0 d 47 118 L st h
theorem x47_119 (d : Nat) (L st : List Value) (h : gd_H) : go gd_P0 d 47 119 L st h = gs gd_P0 d 47 119 L (i_ist 4 121 L st h) := go_eq gd_P0 d 47 119 L st h
theorem x47_121 (d : Nat) (L st : List Value) (h : gd_H) : go gd_P0 d 47 121 L st h = gs gd_P0 d 47 121 L (i_msk [true, true, true, true, true, false] (i_ild 4 123) L st h) := go_eq gd_P0 d 47 121 L st h
theorem x47_123 (d : Nat) (L st : List Value) (h : gd_H) : go gd_P0 d 47 123 L st h = gs gd_P0 d 47 123 L (i_ald 0 124 L st h) := go_eq gd_P0 d 47 123 L st h
theorem x47_124 (d : Nat) (L st : List Value) (h : gd_H) : go gd_P0 d 47 124 L st h = gs gd_P0 d 47 124 L (i_getR 1 15 127 L st h) := go_eq gd_P0 d 47 124 L st h
theorem x47_127 (d : Nat) (L st : List Value) (h : gd_H) : go gd_P0 d 47 127 L st h = gs gd_P0 d 47 127 L (i_getI 6 7 130 L st h) := go_eq gd_P0 d 47 127 L st h
theorem x47_130 (d : Nat) (L st : List Value) (h : gd_H) : go gd_P0 d 47 130 L st h = gs gd_P0 d 47 130 L (i_icge 192 133 L st h) := go_eq gd_P0 d 47 130 L st h
theorem x47_133 (d : Nat) (L st : List Value) (h : gd_H) : go gd_P0 d 47 133 L st h = gs gd_P0 d 47 133 L (i_ild 3 134 L st h) := go_eq gd_P0 d 47 133 L st h
theorem x47_134 (d : Nat) (L st : List Value) (h : gd_H) : go gd_P0 d 47 134 L st h = gs gd_P0 d 47 134 L (i_ild 2 135 L st h) := go_eq gd_P0 d 47 134 L st h
theorem x47_135 (d : Nat) (L st : List Value) (h : gd_H) : go gd_P0 d 47 135 L st h = gs gd_P0 d 47 135 L (i_icge 192 138 L st h) := go_eq gd_P0 d 47 135 L st h
theorem x47_138 (d : Nat) (L st : List Value) (h : gd_H) : go gd_P0 d 47 138 L st h = gs gd_P0 d 47 138 L (i_ald 0 139 L st h) := go_eq gd_P0 d 47 138 L st h
theorem x47_139 (d : Nat) (L st : List Value) (h : gd_H) : go gd_P0 d 47 139 L st h = gs gd_P0 d 47 139 L (i_getR 1 12 142 L st h) := go_eq gd_P0 d 47 139 L st h
theorem x47_142 (d : Nat) (L st : List Value) (h : gd_H) : go gd_P0 d 47 142 L st h = gs gd_P0 d 47 142 L (i_ild 4 144 L st h) := go_eq gd_P0 d 47 142 L st h
theorem x47_144 (d : Nat) (L st : List Value) (h : gd_H) : go gd_P0 d 47 144 L st h = gs gd_P0 d 47 144 L (i_aldI 31 145 L st h) := go_eq gd_P0 d 47 144 L st h
theorem x47_145 (d : Nat) (L st : List Value) (h : gd_H) : go gd_P0 d 47 145 L st h = gs gd_P0 d 47 145 L (i_ild 2 146 L st h) := go_eq gd_P0 d 47 145 L st h
theorem x47_146 (d : Nat) (L st : List Value) (h : gd_H) : go gd_P0 d 47 146 L st h = gs gd_P0 d 47 146 L (i_ild 3 147 L st h) := go_eq gd_P0 d 47 146 L st h
theorem x47_147 (d : Nat) (L st : List Value) (h : gd_H) : go gd_P0 d 47 147 L st h = gs gd_P0 d 47 147 L (i_isub 148 L st h) := go_eq gd_P0 d 47 147 L st h
theorem x47_148 (d : Nat) (L st : List Value) (h : gd_H) : go gd_P0 d 47 148 L st h = gs gd_P0 d 47 148 L (i_icne 186 151 L st h) := go_eq gd_P0 d 47 148 L st h
theorem x47_151 (d : Nat) (L st : List Value) (h : gd_H) : go gd_P0 d 47 151 L st h = gs gd_P0 d 47 151 L (i_ild 3 152 L st h) := go_eq gd_P0 d 47 151 L st h
theorem x47_152 (d : Nat) (L st : List Value) (h : gd_H) : go gd_P0 d 47 152 L st h = gs gd_P0 d 47 152 L (i_ifle 175 155 L st h) := go_eq gd_P0 d 47 152 L st h
theorem x47_155 (d : Nat) (L st : List Value) (h : gd_H) : go gd_P0 d 47 155 L st h = gs gd_P0 d 47 155 L (i_ald 1 156 L st h) := go_eq gd_P0 d 47 155 L st h
theorem x47_156 (d : Nat) (L st : List Value) (h : gd_H) : go gd_P0 d 47 156 L st h = gs gd_P0 d 47 156 L (i_ild 4 158 L st h) := go_eq gd_P0 d 47 156 L st h
theorem x47_158 (d : Nat) (L st : List Value) (h : gd_H) : go gd_P0 d 47 158 L st h = gs gd_P0 d 47 158 L (i_aldI 31 159 L st h) := go_eq gd_P0 d 47 158 L st h
theorem x47_159 (d : Nat) (L st : List Value) (h : gd_H) : go gd_P0 d 47 159 L st h = gs gd_P0 d 47 159 L (i_ald 1 160 L st h) := go_eq gd_P0 d 47 159 L st h
theorem x47_160 (d : Nat) (L st : List Value) (h : gd_H) : go gd_P0 d 47 160 L st h = gs gd_P0 d 47 160 L (i_ald 0 161 L st h) := go_eq gd_P0 d 47 160 L st h
theorem x47_161 (d : Nat) (L st : List Value) (h : gd_H) : go gd_P0 d 47 161 L st h = gs gd_P0 d 47 161 L (i_getR 1 13 164 L st h) := go_eq gd_P0 d 47 161 L st h
theorem x47_164 (d : Nat) (L st : List Value) (h : gd_H) : go gd_P0 d 47 164 L st h = gs gd_P0 d 47 164 L (i_ild 3 165 L st h) := go_eq gd_P0 d 47 164 L st h
theorem x47_165 (d : Nat) (L st : List Value) (h : gd_H) : go gd_P0 d 47 165 L st h = gs gd_P0 d 47 165 L (i_psh (.int 1) 166 L st h) := go_eq gd_P0 d 47 165 L st h
theorem x47_166 (d : Nat) (L st : List Value) (h : gd_H) : go gd_P0 d 47 166 L st h = gs gd_P0 d 47 166 L (i_isub 167 L st h) := go_eq gd_P0 d 47 166 L st h
theorem x47_167 (d : Nat) (L st : List Value) (h : gd_H) : go gd_P0 d 47 167 L st h = gs gd_P0 d 47 167 L (i_aldI 31 168 L st h) := go_eq gd_P0 d 47 167 L st h
theorem x47_168 (d : Nat) (L st : List Value) (h : gd_H) : go gd_P0 d 47 168 L st h = gs gd_P0 d 47 168 L (i_aldI 31 169 L st h) := go_eq gd_P0 d 47 168 L st h
theorem x47_169 (d : Nat) (L st : List Value) (h : gd_H) : go gd_P0 d 47 169 L st h = gs gd_P0 d 47 169 L (i_icgt 175 172 L st h) := go_eq gd_P0 d 47 169 L st h
theorem x47_172 (d : Nat) (L st : List Value) (h : gd_H) : go gd_P0 d 47 172 L st h = gs gd_P0 d 47 172 L (i_goto 186 L st h) := go_eq gd_P0 d 47 172 L st h
theorem x47_175 (d : Nat) (L st : List Value) (h : gd_H) : go gd_P0 d 47 175 L st h = gs gd_P0 d 47 175 L (i_msk [true, true, true, true, true, false] (i_ald 0 176) L st h) := go_eq gd_P0 d 47 175 L st h
theorem x47_176 (d : Nat) (L st : List Value) (h : gd_H) : go gd_P0 d 47 176 L st h = gs gd_P0 d 47 176 L (i_getR 1 13 179 L st h) := go_eq gd_P0 d 47 176 L st h
theorem x47_179 (d : Nat) (L st : List Value) (h : gd_H) : go gd_P0 d 47 179 L st h = gs gd_P0 d 47 179 L (i_ild 3 180 L st h) := go_eq gd_P0 d 47 179 L st h
theorem x47_180 (d : Nat) (L st : List Value) (h : gd_H) : go gd_P0 d 47 180 L st h = gs gd_P0 d 47 180 L (i_inc 3 1 183 L st h) := go_eq gd_P0 d 47 180 L st h
theorem x47_183 (d : Nat) (L st : List Value) (h : gd_H) : go gd_P0 d 47 183 L st h = gs gd_P0 d 47 183 L (i_ild 4 185 L st h) := go_eq gd_P0 d 47 183 L st h
theorem x47_185 (d : Nat) (L st : List Value) (h : gd_H) : go gd_P0 d 47 185 L st h = gs gd_P0 d 47 185 L (i_astI 186 L st h) := go_eq gd_P0 d 47 185 L st h
theorem x47_186 (d : Nat) (L st : List Value) (h : gd_H) : go gd_P0 d 47 186 L st h = gs gd_P0 d 47 186 L (i_msk [true, true, true, true, true, false] (i_inc 4 1 189) L st h) := go_eq gd_P0 d 47 186 L st h
theorem x47_189 (d : Nat) (L st : List Value) (h : gd_H) : go gd_P0 d 47 189 L st h = gs gd_P0 d 47 189 L (i_goto 121 L st h) := go_eq gd_P0 d 47 189 L st h
theorem x47_192 (d : Nat) (L st : List Value) (h : gd_H) : go gd_P0 d 47 192 L st h = gs gd_P0 d 47 192 L (i_msk [false, false, true, false, false, false] (i_ild 2 193) L st h) := go_eq gd_P0 d 47 192 L st h
theorem x47_193 (d : Nat) (L st : List Value) (h : gd_H) : go gd_P0 d 47 193 L st h = gs gd_P0 d 47 193 L (i_iret L st h) := go_eq gd_P0 d 47 193 L st h
theorem s47_0 (d : Nat) (h : gd_H) (v0 : Nat) : go gd_P0 d 47 0 [.ref v0, .null, .null, .null, .null, .null] [] h =
    if gT h v0 = 1 then if gT h (gR h v0 2) = 3 then gc gd_P0 d 47 4 7 [.ref v0, .null, .null, .null, .null, .null] [] (run gd_P0 d 145 [.ref (gR h v0 2)] h) else none else none :=
  (x47_0 ..).trans ((x47_1 ..).trans ((gs_if ..).trans (ic9 ((x47_4 ..).trans ((gs_if ..).trans ((ia9 (by simp)).trans (ic9 rfl rfl)))) rfl)))
theorem s47_7 (d : Nat) (h : gd_H) (v0 : Nat) (w1 : Value) (w2 : Value) (w3 : Value) (w4 : Value) (w5 : Value) (z0 : Nat) : go gd_P0 d 47 7 [.ref v0, w1, w2, w3, w4, w5] [.ref z0] h =
    if gT h z0 = 4 then if gT h v0 = 1 then if gT h (gR h v0 15) = 6 then go gd_P0 d 47 26 [.ref v0, .ref (gR h z0 1), .int 0, .int 0, .int ((gI h (gR h v0 15) 7) - 1), .null] [] h else none else none else none :=
  (x47_7 ..).trans ((gs_nif ..).trans (ic9 ((x47_10 ..).trans ((x47_11 ..).trans ((x47_12 ..).trans ((x47_13 ..).trans ((x47_14 ..).trans ((x47_15 ..).trans ((x47_16 ..).trans ((gs_if ..).trans (ic9 ((x47_19 ..).trans ((gs_if ..).trans (ic9 ((x47_22 ..).trans ((x47_23 ..).trans ((x47_24 ..)))) rfl))) rfl))))))))) rfl))
theorem s47_26 (d : Nat) (h : gd_H) (v0 : Nat) (v1 : Nat) (v2 : Int32) (v3 : Int32) (v4 : Int32) (w5 : Value) : go gd_P0 d 47 26 [.ref v0, .ref v1, .int v2, .int v3, .int v4, w5] [] h =
    if v4 < 0 then go gd_P0 d 47 121 [.ref v0, .ref v1, .int v2, .int v3, .int 0, .null] [] h else if gT h v0 = 1 then if gT h (gR h v0 12) = 31 ∧ ¬ (v4 < 0 ∨ gL h (gR h v0 12) ≤ Int32.toNatClampNeg v4) then go gd_P0 d 47 45 [.ref v0, .ref v1, .int v2, .int v3, .int v4, .int (v4 + 1)] [] (wI h (up1 (gI h) (gR h v0 12) (Int32.toNatClampNeg v4) 1)) else none else none :=
  (x47_26 ..).trans ((x47_28 ..).trans ((gs_if ..).trans (ic9 ((x47_118 ..).trans ((x47_119 ..))) ((x47_31 ..).trans ((x47_32 ..).trans ((gs_if ..).trans (ic9 ((x47_35 ..).trans ((x47_37 ..).trans ((x47_38 ..).trans ((gs_if ..).trans (ic9 ((x47_39 ..).trans ((x47_41 ..).trans ((x47_42 ..).trans ((x47_43 ..))))) rfl))))) rfl)))))))
theorem s47_45 (d : Nat) (h : gd_H) (v0 : Nat) (v1 : Nat) (v2 : Int32) (v3 : Int32) (v4 : Int32) (v5 : Int32) : go gd_P0 d 47 45 [.ref v0, .ref v1, .int v2, .int v3, .int v4, .int v5] [] h =
    if gT h v0 = 1 then if gT h (gR h v0 15) = 6 then if (gI h (gR h v0 15) 7) ≤ v5 then if gT h v0 = 1 then if gT h (gR h v0 12) = 31 ∧ ¬ (v4 < 0 ∨ gL h (gR h v0 12) ≤ Int32.toNatClampNeg v4) then go gd_P0 d 47 111 [.ref v0, .ref v1, .int v2, .int v3, .int v4, .int v5] [.int (if v2 < (gI h (gR h v0 12) (Int32.toNatClampNeg v4)) then (gI h (gR h v0 12) (Int32.toNatClampNeg v4)) else v2)] h else none else none else if gT h v1 = 31 ∧ ¬ (v5 < 0 ∨ gL h v1 ≤ Int32.toNatClampNeg v5) then if gT h v1 = 31 ∧ ¬ (v4 < 0 ∨ gL h v1 ≤ Int32.toNatClampNeg v4) then if (gI h v1 (Int32.toNatClampNeg v5)) ≤ (gI h v1 (Int32.toNatClampNeg v4)) then go gd_P0 d 47 94 [.ref v0, .ref v1, .int v2, .int v3, .int v4, .int v5] [] h else if gT h v0 = 1 then if gT h v0 = 1 then if gT h (gR h v0 12) = 31 ∧ ¬ (v4 < 0 ∨ gL h (gR h v0 12) ≤ Int32.toNatClampNeg v4) then if gT h v0 = 1 then if gT h (gR h v0 12) = 31 ∧ ¬ (v5 < 0 ∨ gL h (gR h v0 12) ≤ Int32.toNatClampNeg v5) then go gd_P0 d 47 93 [.ref v0, .ref v1, .int v2, .int v3, .int v4, .int v5] [.int (if (gI h (gR h v0 12) (Int32.toNatClampNeg v4)) < (1 + (gI h (gR h v0 12) (Int32.toNatClampNeg v5))) then (1 + (gI h (gR h v0 12) (Int32.toNatClampNeg v5))) else (gI h (gR h v0 12) (Int32.toNatClampNeg v4))), .int v4, .ref (gR h v0 12)] h else none else none else none else none else none else none else none else none else none :=
  (x47_45 ..).trans ((x47_47 ..).trans ((x47_48 ..).trans ((gs_if ..).trans (ic9 ((x47_51 ..).trans ((gs_if ..).trans (ic9 ((x47_54 ..).trans ((gs_if ..).trans (ic9 ((x47_100 ..).trans ((x47_101 ..).trans ((x47_102 ..).trans ((gs_if ..).trans (ic9 ((x47_105 ..).trans ((x47_107 ..).trans ((gs_if ..).trans (ic9 ((x47_108 ..)) rfl)))) rfl))))) ((x47_57 ..).trans ((x47_58 ..).trans ((x47_60 ..).trans ((gs_if ..).trans (ic9 ((x47_61 ..).trans ((x47_62 ..).trans ((x47_64 ..).trans ((gs_if ..).trans (ic9 ((x47_65 ..).trans ((gs_if ..).trans (ic9 (rfl) ((x47_68 ..).trans ((x47_69 ..).trans ((gs_if ..).trans (ic9 ((x47_72 ..).trans ((x47_74 ..).trans ((x47_75 ..).trans ((gs_if ..).trans (ic9 ((x47_78 ..).trans ((x47_80 ..).trans ((gs_if ..).trans (ic9 ((x47_81 ..).trans ((x47_82 ..).trans ((x47_83 ..).trans ((gs_if ..).trans (ic9 ((x47_86 ..).trans ((x47_88 ..).trans ((gs_if ..).trans (ic9 ((x47_89 ..).trans ((x47_90 ..))) rfl)))) rfl))))) rfl)))) rfl))))) rfl))))))) rfl))))) rfl)))))))) rfl))) rfl))))
theorem s47_93 (d : Nat) (h : gd_H) (v0 : Nat) (v1 : Nat) (v2 : Int32) (v3 : Int32) (v4 : Int32) (v5 : Int32) (z0 : Int32) (z1 : Int32) (z2 : Nat) : go gd_P0 d 47 93 [.ref v0, .ref v1, .int v2, .int v3, .int v4, .int v5] [.int z0, .int z1, .ref z2] h =
    if gT h z2 = 31 ∧ ¬ (z1 < 0 ∨ gL h z2 ≤ Int32.toNatClampNeg z1) then go gd_P0 d 47 94 [.ref v0, .ref v1, .int v2, .int v3, .int v4, .int v5] [] (wI h (up1 (gI h) z2 (Int32.toNatClampNeg z1) z0)) else none :=
  (x47_93 ..).trans ((gs_nif ..).trans (ic9 (rfl) rfl))
theorem s47_94 (d : Nat) (h : gd_H) (v0 : Nat) (v1 : Nat) (v2 : Int32) (v3 : Int32) (v4 : Int32) (v5 : Int32) : go gd_P0 d 47 94 [.ref v0, .ref v1, .int v2, .int v3, .int v4, .int v5] [] h =
    go gd_P0 d 47 45 [.ref v0, .ref v1, .int v2, .int v3, .int v4, .int (v5 + 1)] [] h :=
  (x47_94 ..).trans ((x47_97 ..))
theorem s47_111 (d : Nat) (h : gd_H) (v0 : Nat) (v1 : Nat) (w2 : Value) (v3 : Int32) (v4 : Int32) (w5 : Value) (z0 : Int32) : go gd_P0 d 47 111 [.ref v0, .ref v1, w2, .int v3, .int v4, w5] [.int z0] h =
    go gd_P0 d 47 26 [.ref v0, .ref v1, .int z0, .int v3, .int (v4 + (-1)), .null] [] h :=
  (x47_111 ..).trans ((x47_112 ..).trans ((x47_115 ..)))
theorem s47_121 (d : Nat) (h : gd_H) (v0 : Nat) (v1 : Nat) (v2 : Int32) (v3 : Int32) (v4 : Int32) (w5 : Value) : go gd_P0 d 47 121 [.ref v0, .ref v1, .int v2, .int v3, .int v4, w5] [] h =
    if gT h v0 = 1 then if gT h (gR h v0 15) = 6 then if (gI h (gR h v0 15) 7) ≤ v4 then go gd_P0 d 47 192 [.ref v0, .ref v1, .int v2, .int v3, .int v4, .null] [] h else if v2 ≤ v3 then go gd_P0 d 47 192 [.ref v0, .ref v1, .int v2, .int v3, .int v4, .null] [] h else if gT h v0 = 1 then if gT h (gR h v0 12) = 31 ∧ ¬ (v4 < 0 ∨ gL h (gR h v0 12) ≤ Int32.toNatClampNeg v4) then if (gI h (gR h v0 12) (Int32.toNatClampNeg v4)) = (v2 - v3) then if v3 ≤ 0 then go gd_P0 d 47 175 [.ref v0, .ref v1, .int v2, .int v3, .int v4, .null] [] h else if gT h v1 = 31 ∧ ¬ (v4 < 0 ∨ gL h v1 ≤ Int32.toNatClampNeg v4) then if gT h v0 = 1 then if gT h (gR h v0 13) = 31 ∧ ¬ ((v3 - 1) < 0 ∨ gL h (gR h v0 13) ≤ Int32.toNatClampNeg (v3 - 1)) then if gT h v1 = 31 ∧ ¬ ((gI h (gR h v0 13) (Int32.toNatClampNeg (v3 - 1))) < 0 ∨ gL h v1 ≤ Int32.toNatClampNeg (gI h (gR h v0 13) (Int32.toNatClampNeg (v3 - 1)))) then if (gI h v1 (Int32.toNatClampNeg (gI h (gR h v0 13) (Int32.toNatClampNeg (v3 - 1))))) < (gI h v1 (Int32.toNatClampNeg v4)) then go gd_P0 d 47 175 [.ref v0, .ref v1, .int v2, .int v3, .int v4, .null] [] h else go gd_P0 d 47 186 [.ref v0, .ref v1, .int v2, .int v3, .int v4, .null] [] h else none else none else none else none else go gd_P0 d 47 186 [.ref v0, .ref v1, .int v2, .int v3, .int v4, .null] [] h else none else none else none else none :=
  (x47_121 ..).trans ((x47_123 ..).trans ((x47_124 ..).trans ((gs_if ..).trans (ic9 ((x47_127 ..).trans ((gs_if ..).trans (ic9 ((x47_130 ..).trans ((gs_if ..).trans (ic9 (rfl) ((x47_133 ..).trans ((x47_134 ..).trans ((x47_135 ..).trans ((gs_if ..).trans (ic9 (rfl) ((x47_138 ..).trans ((x47_139 ..).trans ((gs_if ..).trans (ic9 ((x47_142 ..).trans ((x47_144 ..).trans ((gs_if ..).trans (ic9 ((x47_145 ..).trans ((x47_146 ..).trans ((x47_147 ..).trans ((x47_148 ..).trans ((gs_if ..).trans (ic9 ((x47_151 ..).trans ((x47_152 ..).trans ((gs_if ..).trans (ic9 (rfl) ((x47_155 ..).trans ((x47_156 ..).trans ((x47_158 ..).trans ((gs_if ..).trans (ic9 ((x47_159 ..).trans ((x47_160 ..).trans ((x47_161 ..).trans ((gs_if ..).trans (ic9 ((x47_164 ..).trans ((x47_165 ..).trans ((x47_166 ..).trans ((x47_167 ..).trans ((gs_if ..).trans (ic9 ((x47_168 ..).trans ((gs_if ..).trans (ic9 ((x47_169 ..).trans ((gs_if ..).trans (ic9 (rfl) ((x47_172 ..))))) rfl))) rfl)))))) rfl))))) rfl))))))))) (rfl))))))) rfl)))) rfl)))))))))))) rfl))) rfl))))
theorem s47_175 (d : Nat) (h : gd_H) (v0 : Nat) (v1 : Nat) (v2 : Int32) (v3 : Int32) (v4 : Int32) (w5 : Value) : go gd_P0 d 47 175 [.ref v0, .ref v1, .int v2, .int v3, .int v4, w5] [] h =
    if gT h v0 = 1 then if gT h (gR h v0 13) = 31 ∧ ¬ (v3 < 0 ∨ gL h (gR h v0 13) ≤ Int32.toNatClampNeg v3) then go gd_P0 d 47 186 [.ref v0, .ref v1, .int v2, .int (v3 + 1), .int v4, .null] [] (wI h (up1 (gI h) (gR h v0 13) (Int32.toNatClampNeg v3) v4)) else none else none :=
  (x47_175 ..).trans ((x47_176 ..).trans ((gs_if ..).trans (ic9 ((x47_179 ..).trans ((x47_180 ..).trans ((x47_183 ..).trans ((x47_185 ..).trans ((gs_if ..).trans (ic9 (rfl) rfl)))))) rfl)))
theorem s47_186 (d : Nat) (h : gd_H) (v0 : Nat) (v1 : Nat) (v2 : Int32) (v3 : Int32) (v4 : Int32) (w5 : Value) : go gd_P0 d 47 186 [.ref v0, .ref v1, .int v2, .int v3, .int v4, w5] [] h =
    go gd_P0 d 47 121 [.ref v0, .ref v1, .int v2, .int v3, .int (v4 + 1), .null] [] h :=
  (x47_186 ..).trans ((x47_189 ..))
theorem s47_192 (d : Nat) (h : gd_H) (w0 : Value) (w1 : Value) (v2 : Int32) (w3 : Value) (w4 : Value) (w5 : Value) : go gd_P0 d 47 192 [w0, w1, .int v2, w3, w4, w5] [] h =
    some (.inl (some (.int v2)), h) :=
  (x47_192 ..).trans ((x47_193 ..))
theorem r47 (d : Nat) (h : gd_H) (v0 : Nat) : run gd_P0 (d + 1) 47 [.ref v0] h = go gd_P0 d 47 0 [.ref v0, .null, .null, .null, .null, .null] [] h := run_succ gd_P0 d 47 [.ref v0] h (Nat.le_of_ble_eq_true rfl)
theorem x48_0 (d : Nat) (L st : List Value) (h : gd_H) : go gd_P0 d 48 0 L st h = gs gd_P0 d 48 0 L (i_ald 0 1 L st h) := go_eq gd_P0 d 48 0 L st h
theorem x48_1 (d : Nat) (L st : List Value) (h : gd_H) : go gd_P0 d 48 1 L st h = gs gd_P0 d 48 1 L (i_getI 1 20 4 L st h) := go_eq gd_P0 d 48 1 L st h
theorem x48_4 (d : Nat) (L st : List Value) (h : gd_H) : go gd_P0 d 48 4 L st h = gs gd_P0 d 48 4 L (i_psh (.int 3) 5 L st h) := go_eq gd_P0 d 48 4 L st h
theorem x48_5 (d : Nat) (L st : List Value) (h : gd_H) : go gd_P0 d 48 5 L st h = gs gd_P0 d 48 5 L (i_icne 10 8 L st h) := go_eq gd_P0 d 48 5 L st h
theorem x48_8 (d : Nat) (L st : List Value) (h : gd_H) : go gd_P0 d 48 8 L st h = gs gd_P0 d 48 8 L (i_psh (.int (-1)) 9 L st h) := go_eq gd_P0 d 48 8 L st h
theorem x48_9 (d : Nat) (L st : List Value) (h : gd_H) : go gd_P0 d 48 9 L st h = gs gd_P0 d 48 9 L (i_iret L st h) := go_eq gd_P0 d 48 9 L st h
theorem x48_10 (d : Nat) (L st : List Value) (h : gd_H) : go gd_P0 d 48 10 L st h = gs gd_P0 d 48 10 L (i_ald 0 11 L st h) := go_eq gd_P0 d 48 10 L st h
theorem x48_11 (d : Nat) (L st : List Value) (h : gd_H) : go gd_P0 d 48 11 L st h = gs gd_P0 d 48 11 L (i_getR 1 3 14 L st h) := go_eq gd_P0 d 48 11 L st h
theorem x48_14 (d : Nat) (L st : List Value) (h : gd_H) : go gd_P0 d 48 14 L st h = gs gd_P0 d 48 14 L (i_ald 0 15 L st h) := go_eq gd_P0 d 48 14 L st h
theorem x48_15 (d : Nat) (L st : List Value) (h : gd_H) : go gd_P0 d 48 15 L st h = gs gd_P0 d 48 15 L (i_getI 1 20 18 L st h) := go_eq gd_P0 d 48 15 L st h
theorem x48_18 (d : Nat) (L st : List Value) (h : gd_H) : go gd_P0 d 48 18 L st h = gs gd_P0 d 48 18 L (i_aldR 36 19 L st h) := go_eq gd_P0 d 48 18 L st h
theorem x48_19 (d : Nat) (L st : List Value) (h : gd_H) : go gd_P0 d 48 19 L st h = gs gd_P0 d 48 19 L (i_ald 0 20 L st h) := go_eq gd_P0 d 48 19 L st h
theorem x48_20 (d : Nat) (L st : List Value) (h : gd_H) : go gd_P0 d 48 20 L st h = gs gd_P0 d 48 20 L (i_getR 1 2 23 L st h) := go_eq gd_P0 d 48 20 L st h
theorem x48_23 (d : Nat) (L st : List Value) (h : gd_H) : go gd_P0 d 48 23 L st h = gs gd_P0 d 48 23 L (i_cV 146 1 3 26 L st h) := go_eq gd_P0 d 48 23 L st h
theorem x48_26 (d : Nat) (L st : List Value) (h : gd_H) : go gd_P0 d 48 26 L st h = gs gd_P0 d 48 26 L (i_msk [true] (i_ald 0 27) L st h) := go_eq gd_P0 d 48 26 L st h
theorem x48_27 (d : Nat) (L st : List Value) (h : gd_H) : go gd_P0 d 48 27 L st h = gs gd_P0 d 48 27 L (i_dup 28 L st h) := go_eq gd_P0 d 48 27 L st h
theorem x48_28 (d : Nat) (L st : List Value) (h : gd_H) : go gd_P0 d 48 28 L st h = gs gd_P0 d 48 28 L (i_getI 1 20 31 L st h) := go_eq gd_P0 d 48 28 L st h
theorem x48_31 (d : Nat) (L st : List Value) (h : gd_H) : go gd_P0 d 48 31 L st h = gs gd_P0 d 48 31 L (i_psh (.int 1) 32 L st h) := go_eq gd_P0 d 48 31 L st h
theorem x48_32 (d : Nat) (L st : List Value) (h : gd_H) : go gd_P0 d 48 32 L st h = gs gd_P0 d 48 32 L (i_iadd 33 L st h) := go_eq gd_P0 d 48 32 L st h
theorem x48_33 (d : Nat) (L st : List Value) (h : gd_H) : go gd_P0 d 48 33 L st h = gs gd_P0 d 48 33 L (i_dupx1 34 L st h) := go_eq gd_P0 d 48 33 L st h
theorem x48_34 (d : Nat) (L st : List Value) (h : gd_H) : go gd_P0 d 48 34 L st h = gs gd_P0 d 48 34 L (i_putI 1 20 37 L st h) := go_eq gd_P0 d 48 34 L st h
theorem x48_37 (d : Nat) (L st : List Value) (h : gd_H) : go gd_P0 d 48 37 L st h = gs gd_P0 d 48 37 L (i_iret L st h) := go_eq gd_P0 d 48 37 L st h
theorem s48_0 (d : Nat) (h : gd_H) (v0 : Nat) : go gd_P0 d 48 0 [.ref v0] [] h =
    if gT h v0 = 1 then if (gI h v0 20) = 3 then some (.inl (some (.int (-1))), h) else if gT h v0 = 1 then if gT h v0 = 1 then if gT h (gR h v0 3) = 36 ∧ ¬ ((gI h v0 20) < 0 ∨ gL h (gR h v0 3) ≤ Int32.toNatClampNeg (gI h v0 20)) then if gT h v0 = 1 then if gT h (gR h (gR h v0 3) (Int32.toNatClampNeg (gI h v0 20))) = 3 then gc gd_P0 d 48 23 26 [.ref v0] [] (run gd_P0 d 146 [.ref (gR h (gR h v0 3) (Int32.toNatClampNeg (gI h v0 20))), .ref (gR h v0 2)] h) else none else none else none else none else none else none :=
  (x48_0 ..).trans ((x48_1 ..).trans ((gs_if ..).trans (ic9 ((x48_4 ..).trans ((x48_5 ..).trans ((gs_if ..).trans (ic9 ((x48_8 ..).trans ((x48_9 ..))) ((x48_10 ..).trans ((x48_11 ..).trans ((gs_if ..).trans (ic9 ((x48_14 ..).trans ((x48_15 ..).trans ((gs_if ..).trans (ic9 ((x48_18 ..).trans ((gs_if ..).trans (ic9 ((x48_19 ..).trans ((x48_20 ..).trans ((gs_if ..).trans (ic9 ((x48_23 ..).trans ((gs_if ..).trans ((ia9 (by simp)).trans (ic9 rfl rfl)))) rfl)))) rfl))) rfl)))) rfl)))))))) rfl)))
theorem s48_26 (d : Nat) (h : gd_H) (v0 : Nat) : go gd_P0 d 48 26 [.ref v0] [] h =
    if gT h v0 = 1 then if gT h v0 = 1 then some (.inl (some (.int ((gI h v0 20) + 1))), (wI h (up1 (gI h) v0 20 ((gI h v0 20) + 1)))) else none else none :=
  (x48_26 ..).trans ((x48_27 ..).trans ((x48_28 ..).trans ((gs_if ..).trans (ic9 ((x48_31 ..).trans ((x48_32 ..).trans ((x48_33 ..).trans ((x48_34 ..).trans ((gs_if ..).trans (ic9 ((x48_37 ..)) rfl)))))) rfl))))
theorem r48 (d : Nat) (h : gd_H) (v0 : Nat) : run gd_P0 (d + 1) 48 [.ref v0] h = go gd_P0 d 48 0 [.ref v0] [] h := run_succ gd_P0 d 48 [.ref v0] h (Nat.le_of_ble_eq_true rfl)
theorem x49_0 (d : Nat) (L st : List Value) (h : gd_H) : go gd_P0 d 49 0 L st h = gs gd_P0 d 49 0 L (i_ald 0 1 L st h) := go_eq gd_P0 d 49 0 L st h
theorem x49_1 (d : Nat) (L st : List Value) (h : gd_H) : go gd_P0 d 49 1 L st h = gs gd_P0 d 49 1 L (i_getI 1 20 4 L st h) := go_eq gd_P0 d 49 1 L st h
theorem x49_4 (d : Nat) (L st : List Value) (h : gd_H) : go gd_P0 d 49 4 L st h = gs gd_P0 d 49 4 L (i_ifne 9 7 L st h) := go_eq gd_P0 d 49 4 L st h
theorem x49_7 (d : Nat) (L st : List Value) (h : gd_H) : go gd_P0 d 49 7 L st h = gs gd_P0 d 49 7 L (i_psh (.int (-1)) 8 L st h) := go_eq gd_P0 d 49 7 L st h
theorem x49_8 (d : Nat) (L st : List Value) (h : gd_H) : go gd_P0 d 49 8 L st h = gs gd_P0 d 49 8 L (i_iret L st h) := go_eq gd_P0 d 49 8 L st h
theorem x49_9 (d : Nat) (L st : List Value) (h : gd_H) : go gd_P0 d 49 9 L st h = gs gd_P0 d 49 9 L (i_ald 0 10 L st h) := go_eq gd_P0 d 49 9 L st h
theorem x49_10 (d : Nat) (L st : List Value) (h : gd_H) : go gd_P0 d 49 10 L st h = gs gd_P0 d 49 10 L (i_getR 1 2 13 L st h) := go_eq gd_P0 d 49 10 L st h
theorem x49_13 (d : Nat) (L st : List Value) (h : gd_H) : go gd_P0 d 49 13 L st h = gs gd_P0 d 49 13 L (i_ald 0 14 L st h) := go_eq gd_P0 d 49 13 L st h
theorem x49_14 (d : Nat) (L st : List Value) (h : gd_H) : go gd_P0 d 49 14 L st h = gs gd_P0 d 49 14 L (i_getR 1 3 17 L st h) := go_eq gd_P0 d 49 14 L st h
theorem x49_17 (d : Nat) (L st : List Value) (h : gd_H) : go gd_P0 d 49 17 L st h = gs gd_P0 d 49 17 L (i_ald 0 18 L st h) := go_eq gd_P0 d 49 17 L st h
theorem x49_18 (d : Nat) (L st : List Value) (h : gd_H) : go gd_P0 d 49 18 L st h = gs gd_P0 d 49 18 L (i_dup 19 L st h) := go_eq gd_P0 d 49 18 L st h
theorem x49_19 (d : Nat) (L st : List Value) (h : gd_H) : go gd_P0 d 49 19 L st h = gs gd_P0 d 49 19 L (i_getI 1 20 22 L st h) := go_eq gd_P0 d 49 19 L st h
theorem x49_22 (d : Nat) (L st : List Value) (h : gd_H) : go gd_P0 d 49 22 L st h = gs gd_P0 d 49 22 L (i_psh (.int 1) 23 L st h) := go_eq gd_P0 d 49 22 L st h
theorem x49_23 (d : Nat) (L st : List Value) (h : gd_H) : go gd_P0 d 49 23 L st h = gs gd_P0 d 49 23 L (i_isub 24 L st h) := go_eq gd_P0 d 49 23 L st h
theorem x49_24 (d : Nat) (L st : List Value) (h : gd_H) : go gd_P0 d 49 24 L st h = gs gd_P0 d 49 24 L (i_dupx1 25 L st h) := go_eq gd_P0 d 49 24 L st h
theorem x49_25 (d : Nat) (L st : List Value) (h : gd_H) : go gd_P0 d 49 25 L st h = gs gd_P0 d 49 25 L (i_putI 1 20 28 L st h) := go_eq gd_P0 d 49 25 L st h
theorem x49_28 (d : Nat) (L st : List Value) (h : gd_H) : go gd_P0 d 49 28 L st h = gs gd_P0 d 49 28 L (i_aldR 36 29 L st h) := go_eq gd_P0 d 49 28 L st h
theorem x49_29 (d : Nat) (L st : List Value) (h : gd_H) : go gd_P0 d 49 29 L st h = gs gd_P0 d 49 29 L (i_cV 146 1 3 32 L st h) := go_eq gd_P0 d 49 29 L st h
theorem x49_32 (d : Nat) (L st : List Value) (h : gd_H) : go gd_P0 d 49 32 L st h = gs gd_P0 d 49 32 L (i_msk [true] (i_ald 0 33) L st h) := go_eq gd_P0 d 49 32 L st h
theorem x49_33 (d : Nat) (L st : List Value) (h : gd_H) : go gd_P0 d 49 33 L st h = gs gd_P0 d 49 33 L (i_psh (.int 0) 34 L st h) := go_eq gd_P0 d 49 33 L st h
theorem x49_34 (d : Nat) (L st : List Value) (h : gd_H) : go gd_P0 d 49 34 L st h = gs gd_P0 d 49 34 L (i_putI 1 19 37 L st h) := go_eq gd_P0 d 49 34 L st h
theorem x49_37 (d : Nat) (L st : List Value) (h : gd_H) : go gd_P0 d 49 37 L st h = gs gd_P0 d 49 37 L (i_ald 0 38 L st h) := go_eq gd_P0 d 49 37 L st h
theorem x49_38 (d : Nat) (L st : List Value) (h : gd_H) : go gd_P0 d 49 38 L st h = gs gd_P0 d 49 38 L (i_getI 1 20 41 L st h) := go_eq gd_P0 d 49 38 L st h
theorem x49_41 (d : Nat) (L st : List Value) (h : gd_H) : go gd_P0 d 49 41 L st h = gs gd_P0 d 49 41 L (i_iret L st h) := go_eq gd_P0 d 49 41 L st h
theorem s49_0 (d : Nat) (h : gd_H) (v0 : Nat) : go gd_P0 d 49 0 [.ref v0] [] h =
    if gT h v0 = 1 then if (gI h v0 20) = 0 then some (.inl (some (.int (-1))), h) else if gT h v0 = 1 then if gT h v0 = 1 then if gT h v0 = 1 then if gT h v0 = 1 then if gT h (gR h v0 3) = 36 ∧ ¬ (((gI h v0 20) - 1) < 0 ∨ gL h (gR h v0 3) ≤ Int32.toNatClampNeg ((gI h v0 20) - 1)) then if gT h (gR h v0 2) = 3 then gc gd_P0 d 49 29 32 [.ref v0] [] (run gd_P0 d 146 [.ref (gR h v0 2), .ref (gR h (gR h v0 3) (Int32.toNatClampNeg ((gI h v0 20) - 1)))] (wI h (up1 (gI h) v0 20 ((gI h v0 20) - 1)))) else none else none else none else none else none else none else none :=
  (x49_0 ..).trans ((x49_1 ..).trans ((gs_if ..).trans (ic9 ((x49_4 ..).trans ((gs_if ..).trans (ic9 ((x49_7 ..).trans ((x49_8 ..))) ((x49_9 ..).trans ((x49_10 ..).trans ((gs_if ..).trans (ic9 ((x49_13 ..).trans ((x49_14 ..).trans ((gs_if ..).trans (ic9 ((x49_17 ..).trans ((x49_18 ..).trans ((x49_19 ..).trans ((gs_if ..).trans (ic9 ((x49_22 ..).trans ((x49_23 ..).trans ((x49_24 ..).trans ((x49_25 ..).trans ((gs_if ..).trans (ic9 ((x49_28 ..).trans ((gs_if ..).trans (ic9 ((x49_29 ..).trans ((gs_if ..).trans ((ia9 (by simp)).trans (ic9 rfl rfl)))) rfl))) rfl)))))) rfl))))) rfl)))) rfl))))))) rfl)))
theorem s49_32 (d : Nat) (h : gd_H) (v0 : Nat) : go gd_P0 d 49 32 [.ref v0] [] h =
    if gT h v0 = 1 then if gT h v0 = 1 then some (.inl (some (.int ((up1 (gI h) v0 19 0) v0 20))), (wI h (up1 (gI h) v0 19 0))) else none else none :=
  (x49_32 ..).trans ((x49_33 ..).trans ((x49_34 ..).trans ((gs_if ..).trans (ic9 ((x49_37 ..).trans ((x49_38 ..).trans ((gs_if ..).trans (ic9 ((x49_41 ..)) rfl)))) rfl))))
theorem r49 (d : Nat) (h : gd_H) (v0 : Nat) : run gd_P0 (d + 1) 49 [.ref v0] h = go gd_P0 d 49 0 [.ref v0] [] h := run_succ gd_P0 d 49 [.ref v0] h (Nat.le_of_ble_eq_true rfl)
theorem x50_0 (d : Nat) (L st : List Value) (h : gd_H) : go gd_P0 d 50 0 L st h = gs gd_P0 d 50 0 L (i_ild 1 1 L st h) := go_eq gd_P0 d 50 0 L st h
theorem x50_1 (d : Nat) (L st : List Value) (h : gd_H) : go gd_P0 d 50 1 L st h = gs gd_P0 d 50 1 L (i_iflt 9 4 L st h) := go_eq gd_P0 d 50 1 L st h
theorem x50_4 (d : Nat) (L st : List Value) (h : gd_H) : go gd_P0 d 50 4 L st h = gs gd_P0 d 50 4 L (i_ild 1 5 L st h) := go_eq gd_P0 d 50 4 L st h
theorem x50_5 (d : Nat) (L st : List Value) (h : gd_H) : go gd_P0 d 50 5 L st h = gs gd_P0 d 50 5 L (i_psh (.int 1) 6 L st h) := go_eq gd_P0 d 50 5 L st h
theorem x50_6 (d : Nat) (L st : List Value) (h : gd_H) : go gd_P0 d 50 6 L st h = gs gd_P0 d 50 6 L (i_icle 13 9 L st h) := go_eq gd_P0 d 50 6 L st h
theorem x50_9 (d : Nat) (L st : List Value) (h : gd_H) : go gd_P0 d 50 9 L st h = gs gd_P0 d 50 9 L (i_msk [false, false] (i_psh (.int (-1)) 10) L st h) := go_eq gd_P0 d 50 9 L st h
theorem x50_10 (d : Nat) (L st : List Value) (h : gd_H) : go gd_P0 d 50 10 L st h = gs gd_P0 d 50 10 L (i_goto 19 L st h) := go_eq gd_P0 d 50 10 L st h
theorem x50_13 (d : Nat) (L st : List Value) (h : gd_H) : go gd_P0 d 50 13 L st h = gs gd_P0 d 50 13 L (i_ald 0 14 L st h) := go_eq gd_P0 d 50 13 L st h
theorem x50_14 (d : Nat) (L st : List Value) (h : gd_H) : go gd_P0 d 50 14 L st h = gs gd_P0 d 50 14 L (i_getR 1 7 17 L st h) := go_eq gd_P0 d 50 14 L st h
theorem x50_17 (d : Nat) (L st : List Value) (h : gd_H) : go gd_P0 d 50 17 L st h = gs gd_P0 d 50 17 L (i_ild 1 18 L st h) := go_eq gd_P0 d 50 17 L st h
theorem x50_18 (d : Nat) (L st : List Value) (h : gd_H) : go gd_P0 d 50 18 L st h = gs gd_P0 d 50 18 L (i_aldI 31 19 L st h) := go_eq gd_P0 d 50 18 L st h
theorem x50_19 (d : Nat) (L st : List Value) (h : gd_H) : go gd_P0 d 50 19 L st h = gs gd_P0 d 50 19 L (i_msk [false, false] (i_iret) L st h) := go_eq gd_P0 d 50 19 L st h
theorem s50_0 (d : Nat) (h : gd_H) (v0 : Nat) (v1 : Int32) : go gd_P0 d 50 0 [.ref v0, .int v1] [] h =
    if v1 < 0 then go gd_P0 d 50 9 [.ref v0, .int v1] [] h else if v1 ≤ 1 then if gT h v0 = 1 then if gT h (gR h v0 7) = 31 ∧ ¬ (v1 < 0 ∨ gL h (gR h v0 7) ≤ Int32.toNatClampNeg v1) then go gd_P0 d 50 19 [.ref v0, .int v1] [.int (gI h (gR h v0 7) (Int32.toNatClampNeg v1))] h else none else none else go gd_P0 d 50 9 [.ref v0, .int v1] [] h :=
  (x50_0 ..).trans ((x50_1 ..).trans ((gs_if ..).trans (ic9 (rfl) ((x50_4 ..).trans ((x50_5 ..).trans ((x50_6 ..).trans ((gs_if ..).trans (ic9 ((x50_13 ..).trans ((x50_14 ..).trans ((gs_if ..).trans (ic9 ((x50_17 ..).trans ((x50_18 ..).trans ((gs_if ..).trans (ic9 (rfl) rfl)))) rfl)))) (rfl)))))))))
theorem s50_9 (d : Nat) (h : gd_H) (w0 : Value) (w1 : Value) : go gd_P0 d 50 9 [w0, w1] [] h =
    go gd_P0 d 50 19 [.null, .null] [.int (-1)] h :=
  (x50_9 ..).trans ((x50_10 ..))
theorem s50_19 (d : Nat) (h : gd_H) (w0 : Value) (w1 : Value) (z0 : Int32) : go gd_P0 d 50 19 [w0, w1] [.int z0] h =
    some (.inl (some (.int z0)), h) :=
  (x50_19 ..)
theorem r50 (d : Nat) (h : gd_H) (v0 : Nat) (v1 : Int32) : run gd_P0 (d + 1) 50 [.ref v0, .int v1] h = go gd_P0 d 50 0 [.ref v0, .int v1] [] h := run_succ gd_P0 d 50 [.ref v0, .int v1] h (Nat.le_of_ble_eq_true rfl)
theorem x51_0 (d : Nat) (L st : List Value) (h : gd_H) : go gd_P0 d 51 0 L st h = gs gd_P0 d 51 0 L (i_ild 1 1 L st h) := go_eq gd_P0 d 51 0 L st h
theorem x51_1 (d : Nat) (L st : List Value) (h : gd_H) : go gd_P0 d 51 1 L st h = gs gd_P0 d 51 1 L (i_ifne 11 4 L st h) := go_eq gd_P0 d 51 1 L st h
theorem x51_4 (d : Nat) (L st : List Value) (h : gd_H) : go gd_P0 d 51 4 L st h = gs gd_P0 d 51 4 L (i_ald 0 5 L st h) := go_eq gd_P0 d 51 4 L st h
theorem x51_5 (d : Nat) (L st : List Value) (h : gd_H) : go gd_P0 d 51 5 L st h = gs gd_P0 d 51 5 L (i_getI 1 20 8 L st h) := go_eq gd_P0 d 51 5 L st h
theorem x51_8 (d : Nat) (L st : List Value) (h : gd_H) : go gd_P0 d 51 8 L st h = gs gd_P0 d 51 8 L (i_goto 39 L st h) := go_eq gd_P0 d 51 8 L st h
theorem x51_11 (d : Nat) (L st : List Value) (h : gd_H) : go gd_P0 d 51 11 L st h = gs gd_P0 d 51 11 L (i_ild 1 12 L st h) := go_eq gd_P0 d 51 11 L st h
theorem x51_12 (d : Nat) (L st : List Value) (h : gd_H) : go gd_P0 d 51 12 L st h = gs gd_P0 d 51 12 L (i_psh (.int 1) 13 L st h) := go_eq gd_P0 d 51 12 L st h
theorem x51_13 (d : Nat) (L st : List Value) (h : gd_H) : go gd_P0 d 51 13 L st h = gs gd_P0 d 51 13 L (i_icne 23 16 L st h) := go_eq gd_P0 d 51 13 L st h
theorem x51_16 (d : Nat) (L st : List Value) (h : gd_H) : go gd_P0 d 51 16 L st h = gs gd_P0 d 51 16 L (i_ald 0 17 L st h) := go_eq gd_P0 d 51 16 L st h
theorem x51_17 (d : Nat) (L st : List Value) (h : gd_H) : go gd_P0 d 51 17 L st h = gs gd_P0 d 51 17 L (i_getI 1 16 20 L st h) := go_eq gd_P0 d 51 17 L st h
theorem x51_20 (d : Nat) (L st : List Value) (h : gd_H) : go gd_P0 d 51 20 L st h = gs gd_P0 d 51 20 L (i_goto 39 L st h) := go_eq gd_P0 d 51 20 L st h
theorem x51_23 (d : Nat) (L st : List Value) (h : gd_H) : go gd_P0 d 51 23 L st h = gs gd_P0 d 51 23 L (i_ild 1 24 L st h) := go_eq gd_P0 d 51 23 L st h
theorem x51_24 (d : Nat) (L st : List Value) (h : gd_H) : go gd_P0 d 51 24 L st h = gs gd_P0 d 51 24 L (i_psh (.int 2) 25 L st h) := go_eq gd_P0 d 51 24 L st h
theorem x51_25 (d : Nat) (L st : List Value) (h : gd_H) : go gd_P0 d 51 25 L st h = gs gd_P0 d 51 25 L (i_icne 38 28 L st h) := go_eq gd_P0 d 51 25 L st h
theorem x51_28 (d : Nat) (L st : List Value) (h : gd_H) : go gd_P0 d 51 28 L st h = gs gd_P0 d 51 28 L (i_ald 0 29 L st h) := go_eq gd_P0 d 51 28 L st h
theorem x51_29 (d : Nat) (L st : List Value) (h : gd_H) : go gd_P0 d 51 29 L st h = gs gd_P0 d 51 29 L (i_getR 1 2 32 L st h) := go_eq gd_P0 d 51 29 L st h
theorem x51_32 (d : Nat) (L st : List Value) (h : gd_H) : go gd_P0 d 51 32 L st h = gs gd_P0 d 51 32 L (i_getI 3 1 35 L st h) := go_eq gd_P0 d 51 32 L st h
theorem x51_35 (d : Nat) (L st : List Value) (h : gd_H) : go gd_P0 d 51 35 L st h = gs gd_P0 d 51 35 L (i_goto 39 L st h) := go_eq gd_P0 d 51 35 L st h
theorem x51_38 (d : Nat) (L st : List Value) (h : gd_H) : go gd_P0 d 51 38 L st h = gs gd_P0 d 51 38 L (i_psh (.int (-1)) 39 L st h) := go_eq gd_P0 d 51 38 L st h
theorem x51_39 (d : Nat) (L st : List Value) (h : gd_H) : go gd_P0 d 51 39 L st h = gs gd_P0 d 51 39 L (i_msk [false, false] (i_iret) L st h) := go_eq gd_P0 d 51 39 L st h
theorem s51_0 (d : Nat) (h : gd_H) (v0 : Nat) (v1 : Int32) : go gd_P0 d 51 0 [.ref v0, .int v1] [] h =
    if v1 = 0 then if gT h v0 = 1 then go gd_P0 d 51 39 [.ref v0, .int v1] [.int (gI h v0 20)] h else none else if v1 = 1 then if gT h v0 = 1 then go gd_P0 d 51 39 [.ref v0, .int v1] [.int (gI h v0 16)] h else none else if v1 = 2 then if gT h v0 = 1 then if gT h (gR h v0 2) = 3 then go gd_P0 d 51 39 [.ref v0, .int v1] [.int (gI h (gR h v0 2) 1)] h else none else none else go gd_P0 d 51 39 [.ref v0, .int v1] [.int (-1)] h :=
  (x51_0 ..).trans ((x51_1 ..).trans ((gs_if ..).trans (ic9 ((x51_4 ..).trans ((x51_5 ..).trans ((gs_if ..).trans (ic9 ((x51_8 ..)) rfl)))) ((x51_11 ..).trans ((x51_12 ..).trans ((x51_13 ..).trans ((gs_if ..).trans (ic9 ((x51_16 ..).trans ((x51_17 ..).trans ((gs_if ..).trans (ic9 ((x51_20 ..)) rfl)))) ((x51_23 ..).trans ((x51_24 ..).trans ((x51_25 ..).trans ((gs_if ..).trans (ic9 ((x51_28 ..).trans ((x51_29 ..).trans ((gs_if ..).trans (ic9 ((x51_32 ..).trans ((gs_if ..).trans (ic9 ((x51_35 ..)) rfl))) rfl)))) ((x51_38 ..)))))))))))))))
theorem s51_39 (d : Nat) (h : gd_H) (w0 : Value) (w1 : Value) (z0 : Int32) : go gd_P0 d 51 39 [w0, w1] [.int z0] h =
    some (.inl (some (.int z0)), h) :=
  (x51_39 ..)
theorem r51 (d : Nat) (h : gd_H) (v0 : Nat) (v1 : Int32) : run gd_P0 (d + 1) 51 [.ref v0, .int v1] h = go gd_P0 d 51 0 [.ref v0, .int v1] [] h := run_succ gd_P0 d 51 [.ref v0, .int v1] h (Nat.le_of_ble_eq_true rfl)
theorem x52_0 (d : Nat) (L st : List Value) (h : gd_H) : go gd_P0 d 52 0 L st h = gs gd_P0 d 52 0 L (i_ald 0 1 L st h) := go_eq gd_P0 d 52 0 L st h
theorem x52_1 (d : Nat) (L st : List Value) (h : gd_H) : go gd_P0 d 52 1 L st h = gs gd_P0 d 52 1 L (i_ild 1 2 L st h) := go_eq gd_P0 d 52 1 L st h
theorem x52_2 (d : Nat) (L st : List Value) (h : gd_H) : go gd_P0 d 52 2 L st h = gs gd_P0 d 52 2 L (i_psh (.int 0) 3 L st h) := go_eq gd_P0 d 52 2 L st h
theorem x52_3 (d : Nat) (L st : List Value) (h : gd_H) : go gd_P0 d 52 3 L st h = gs gd_P0 d 52 3 L (i_ald 0 4 L st h) := go_eq gd_P0 d 52 3 L st h
theorem x52_4 (d : Nat) (L st : List Value) (h : gd_H) : go gd_P0 d 52 4 L st h = gs gd_P0 d 52 4 L (i_getI 1 16 7 L st h) := go_eq gd_P0 d 52 4 L st h
theorem x52_7 (d : Nat) (L st : List Value) (h : gd_H) : go gd_P0 d 52 7 L st h = gs gd_P0 d 52 7 L (i_cV 53 3 1 10 L st h) := go_eq gd_P0 d 52 7 L st h
theorem x52_10 (d : Nat) (L st : List Value) (h : gd_H) : go gd_P0 d 52 10 L st h = gs gd_P0 d 52 10 L (i_msk [true, true, false] (i_ald 0 11) L st h) := go_eq gd_P0 d 52 10 L st h
theorem x52_11 (d : Nat) (L st : List Value) (h : gd_H) : go gd_P0 d 52 11 L st h = gs gd_P0 d 52 11 L (i_new 9 4 14 L st h) := go_eq gd_P0 d 52 11 L st h
theorem x52_14 (d : Nat) (L st : List Value) (h : gd_H) : go gd_P0 d 52 14 L st h = gs gd_P0 d 52 14 L (i_dup 15 L st h) := go_eq gd_P0 d 52 14 L st h
theorem x52_15 (d : Nat) (L st : List Value) (h : gd_H) : go gd_P0 d 52 15 L st h = gs gd_P0 d 52 15 L (i_ald 0 16 L st h) := go_eq gd_P0 d 52 15 L st h
theorem x52_16 (d : Nat) (L st : List Value) (h : gd_H) : go gd_P0 d 52 16 L st h = gs gd_P0 d 52 16 L (i_ild 1 17 L st h) := go_eq gd_P0 d 52 16 L st h
theorem x52_17 (d : Nat) (L st : List Value) (h : gd_H) : go gd_P0 d 52 17 L st h = gs gd_P0 d 52 17 L (i_cV 54 1 1 20 L st h) := go_eq gd_P0 d 52 17 L st h
theorem x52_20 (d : Nat) (L st : List Value) (h : gd_H) : go gd_P0 d 52 20 L st h = gs gd_P0 d 52 20 L (i_msk [true, false, false] (i_cV 284 1 9 23) L st h) := go_eq gd_P0 d 52 20 L st h
theorem x52_23 (d : Nat) (L st : List Value) (h : gd_H) : go gd_P0 d 52 23 L st h = gs gd_P0 d 52 23 L (i_msk [true, false, false] (i_cV 285 0 9 26) L st h) := go_eq gd_P0 d 52 23 L st h
theorem x52_26 (d : Nat) (L st : List Value) (h : gd_H) : go gd_P0 d 52 26 L st h = gs gd_P0 d 52 26 L (i_msk [true, false, false] (i_putR 1 15 29) L st h) := go_eq gd_P0 d 52 26 L st h
theorem x52_29 (d : Nat) (L st : List Value) (h : gd_H) : go gd_P0 d 52 29 L st h = gs gd_P0 d 52 29 L (i_goto 39 L st h) := go_eq gd_P0 d 52 29 L st h
theorem x52_32 (d : Nat) (L st : List Value) (h : gd_H) : go gd_P0 d 52 32 L st h = gs gd_P0 d 52 32 L (i_msk [true, false, false] (i_ast 2 33) L st h) := go_eq gd_P0 d 52 32 L st h
theorem x52_33 (d : Nat) (L st : List Value) (h : gd_H) : go gd_P0 d 52 33 L st h = gs gd_P0 d 52 33 L (i_ald 0 34 L st h) := go_eq gd_P0 d 52 33 L st h
theorem x52_34 (d : Nat) (L st : List Value) (h : gd_H) : go gd_P0 d 52 34 L st h = gs gd_P0 d 52 34 L (i_ald 2 35 L st h) := go_eq gd_P0 d 52 34 L st h
theorem x52_35 (d : Nat) (L st : List Value) (h : gd_H) : go gd_P0 d 52 35 L st h = gs gd_P0 d 52 35 L (i_cV 55 1 1 38 L st h) := go_eq gd_P0 d 52 35 L st h
theorem x52_38 (d : Nat) (L st : List Value) (h : gd_H) : go gd_P0 d 52 38 L st h = gs gd_P0 d 52 38 L (i_msk [false, false, false] (i_iret) L st h) := go_eq gd_P0 d 52 38 L st h
theorem x52_39 (d : Nat) (L st : List Value) (h : gd_H) : go gd_P0 d 52 39 L st h = gs gd_P0 d 52 39 L (i_ald 0 40 L st h) := go_eq gd_P0 d 52 39 L st h
theorem x52_40 (d : Nat) (L st : List Value) (h : gd_H) : go gd_P0 d 52 40 L st h = gs gd_P0 d 52 40 L (i_getR 1 2 43 L st h) := go_eq gd_P0 d 52 40 L st h
theorem x52_43 (d : Nat) (L st : List Value) (h : gd_H) : go gd_P0 d 52 43 L st h = gs gd_P0 d 52 43 L (i_psh (.int 0) 44 L st h) := go_eq gd_P0 d 52 43 L st h
theorem x52_44 (d : Nat) (L st : List Value) (h : gd_H) : go gd_P0 d 52 44 L st h = gs gd_P0 d 52 44 L (i_putI 3 1 47 L st h) := go_eq gd_P0 d 52 44 L st h
theorem x52_47 (d : Nat) (L st : List Value) (h : gd_H) : go gd_P0 d 52 47 L st h = gs gd_P0 d 52 47 L (i_ald 0 48 L st h) := go_eq gd_P0 d 52 47 L st h
theorem x52_48 (d : Nat) (L st : List Value) (h : gd_H) : go gd_P0 d 52 48 L st h = gs gd_P0 d 52 48 L (i_getR 1 2 51 L st h) := go_eq gd_P0 d 52 48 L st h
theorem x52_51 (d : Nat) (L st : List Value) (h : gd_H) : go gd_P0 d 52 51 L st h = gs gd_P0 d 52 51 L (i_cV 145 0 3 54 L st h) := go_eq gd_P0 d 52 51 L st h
theorem x52_54 (d : Nat) (L st : List Value) (h : gd_H) : go gd_P0 d 52 54 L st h = gs gd_P0 d 52 54 L (i_msk [true, false, false] (i_ald 0 55) L st h) := go_eq gd_P0 d 52 54 L st h
theorem x52_55 (d : Nat) (L st : List Value) (h : gd_H) : go gd_P0 d 52 55 L st h = gs gd_P0 d 52 55 L (i_getR 1 15 58 L st h) := go_eq gd_P0 d 52 55 L st h
theorem x52_58 (d : Nat) (L st : List Value) (h : gd_H) : go gd_P0 d 52 58 L st h = gs gd_P0 d 52 58 L (i_cV 148 1 4 61 L st h) := go_eq gd_P0 d 52 58 L st h
theorem x52_61 (d : Nat) (L st : List Value) (h : gd_H) : go gd_P0 d 52 61 L st h = gs gd_P0 d 52 61 L (i_msk [true, false, false] (i_ald 0 62) L st h) := go_eq gd_P0 d 52 61 L st h
theorem x52_62 (d : Nat) (L st : List Value) (h : gd_H) : go gd_P0 d 52 62 L st h = gs gd_P0 d 52 62 L (i_getR 1 1 65 L st h) := go_eq gd_P0 d 52 62 L st h
theorem x52_65 (d : Nat) (L st : List Value) (h : gd_H) : go gd_P0 d 52 65 L st h = gs gd_P0 d 52 65 L (i_psh (.ref 0) 66 L st h) := go_eq gd_P0 d 52 65 L st h
theorem x52_66 (d : Nat) (L st : List Value) (h : gd_H) : go gd_P0 d 52 66 L st h = gs gd_P0 d 52 66 L (i_putR 2 0 69 L st h) := go_eq gd_P0 d 52 66 L st h
theorem x52_69 (d : Nat) (L st : List Value) (h : gd_H) : go gd_P0 d 52 69 L st h = gs gd_P0 d 52 69 L (i_ald 0 70 L st h) := go_eq gd_P0 d 52 69 L st h
theorem x52_70 (d : Nat) (L st : List Value) (h : gd_H) : go gd_P0 d 52 70 L st h = gs gd_P0 d 52 70 L (i_psh (.int 0) 71 L st h) := go_eq gd_P0 d 52 70 L st h
theorem x52_71 (d : Nat) (L st : List Value) (h : gd_H) : go gd_P0 d 52 71 L st h = gs gd_P0 d 52 71 L (i_putI 1 18 74 L st h) := go_eq gd_P0 d 52 71 L st h
theorem x52_74 (d : Nat) (L st : List Value) (h : gd_H) : go gd_P0 d 52 74 L st h = gs gd_P0 d 52 74 L (i_ald 0 75 L st h) := go_eq gd_P0 d 52 74 L st h
theorem x52_75 (d : Nat) (L st : List Value) (h : gd_H) : go gd_P0 d 52 75 L st h = gs gd_P0 d 52 75 L (i_psh (.int 0) 76 L st h) := go_eq gd_P0 d 52 75 L st h
theorem x52_76 (d : Nat) (L st : List Value) (h : gd_H) : go gd_P0 d 52 76 L st h = gs gd_P0 d 52 76 L (i_putI 1 19 79 L st h) := go_eq gd_P0 d 52 76 L st h
theorem x52_79 (d : Nat) (L st : List Value) (h : gd_H) : go gd_P0 d 52 79 L st h = gs gd_P0 d 52 79 L (i_ald 0 80 L st h) := go_eq gd_P0 d 52 79 L st h
theorem x52_80 (d : Nat) (L st : List Value) (h : gd_H) : go gd_P0 d 52 80 L st h = gs gd_P0 d 52 80 L (i_psh (.int 0) 81 L st h) := go_eq gd_P0 d 52 80 L st h
theorem x52_81 (d : Nat) (L st : List Value) (h : gd_H) : go gd_P0 d 52 81 L st h = gs gd_P0 d 52 81 L (i_putI 1 20 84 L st h) := go_eq gd_P0 d 52 81 L st h
theorem x52_84 (d : Nat) (L st : List Value) (h : gd_H) : go gd_P0 d 52 84 L st h = gs gd_P0 d 52 84 L (i_ald 0 85 L st h) := go_eq gd_P0 d 52 84 L st h
theorem x52_85 (d : Nat) (L st : List Value) (h : gd_H) : go gd_P0 d 52 85 L st h = gs gd_P0 d 52 85 L (i_getR 1 15 88 L st h) := go_eq gd_P0 d 52 85 L st h
theorem x52_88 (d : Nat) (L st : List Value) (h : gd_H) : go gd_P0 d 52 88 L st h = gs gd_P0 d 52 88 L (i_getI 6 7 91 L st h) := go_eq gd_P0 d 52 88 L st h
theorem x52_91 (d : Nat) (L st : List Value) (h : gd_H) : go gd_P0 d 52 91 L st h = gs gd_P0 d 52 91 L (i_iret L st h) := go_eq gd_P0 d 52 91 L st h
theorem s52_0 (d : Nat) (h : gd_H) (v0 : Nat) (v1 : Int32) : go gd_P0 d 52 0 [.ref v0, .int v1, .null] [] h =
    if gT h v0 = 1 then if gT h v0 = 1 then gc gd_P0 d 52 7 10 [.ref v0, .int v1, .null] [] (run gd_P0 d 53 [.ref v0, .int v1, .int 0, .int (gI h v0 16)] h) else none else none :=
  (x52_0 ..).trans ((x52_1 ..).trans ((x52_2 ..).trans ((x52_3 ..).trans ((x52_4 ..).trans ((gs_if ..).trans (ic9 ((x52_7 ..).trans ((gs_if ..).trans ((ia9 (by simp)).trans (ic9 rfl rfl)))) rfl))))))
theorem s52_10 (d : Nat) (h : gd_H) (v0 : Nat) (v1 : Int32) (w2 : Value) : go gd_P0 d 52 10 [.ref v0, .int v1, w2] [] h =
    if gT (nw h 9 0 4) v0 = 1 then gc gd_P0 d 52 17 20 [.ref v0, .int v1, .null] [.ref (gS h), .ref (gS h), .ref v0] (run gd_P0 d 54 [.ref v0, .int v1] (nw h 9 0 4)) else none :=
  (x52_10 ..).trans ((x52_11 ..).trans ((x52_14 ..).trans ((x52_15 ..).trans ((x52_16 ..).trans ((x52_17 ..).trans ((gs_if ..).trans ((ia9 (by simp)).trans (ic9 rfl rfl))))))))
theorem s52_20 (d : Nat) (h : gd_H) (v0 : Nat) (w1 : Value) (w2 : Value) (z0 : Nat) (z1 : Nat) (z2 : Nat) (z3 : Nat) : go gd_P0 d 52 20 [.ref v0, w1, w2] [.ref z0, .ref z1, .ref z2, .ref z3] h =
    if gT h z1 = 9 then gc gd_P0 d 52 20 23 [.ref v0, .null, .null] [.ref z2, .ref z3] (run gd_P0 d 284 [.ref z1, .ref z0] h) else none :=
  (x52_20 ..).trans ((gs_nif ..).trans ((ia9 (by simp)).trans (ic9 rfl rfl)))
theorem s52_23 (d : Nat) (h : gd_H) (v0 : Nat) (w1 : Value) (w2 : Value) (z0 : Nat) (z1 : Nat) : go gd_P0 d 52 23 [.ref v0, w1, w2] [.ref z0, .ref z1] h =
    if gT h z0 = 9 then gc gd_P0 d 52 23 26 [.ref v0, .null, .null] [.ref z1] (run gd_P0 d 285 [.ref z0] h) else none :=
  (x52_23 ..).trans ((gs_nif ..).trans ((ia9 (by simp)).trans (ic9 rfl rfl)))
theorem s52_26 (d : Nat) (h : gd_H) (v0 : Nat) (w1 : Value) (w2 : Value) (z0 : Nat) (z1 : Nat) : go gd_P0 d 52 26 [.ref v0, w1, w2] [.ref z0, .ref z1] h =
    if gT h z1 = 1 then if gT h v0 = 1 then if gT h ((up1 (gR h) z1 15 z0) v0 2) = 3 then if gT h v0 = 1 then if gT h ((up1 (gR h) z1 15 z0) v0 2) = 3 then gc gd_P0 d 52 51 54 [.ref v0, .null, .null] [] (run gd_P0 d 145 [.ref ((up1 (gR h) z1 15 z0) v0 2)] (wR (wI h (up1 (gI h) ((up1 (gR h) z1 15 z0) v0 2) 1 0)) (up1 (gR h) z1 15 z0))) else none else none else none else none else none :=
  (x52_26 ..).trans ((gs_nif ..).trans (ic9 ((x52_29 ..).trans ((x52_39 ..).trans ((x52_40 ..).trans ((gs_if ..).trans (ic9 ((x52_43 ..).trans ((x52_44 ..).trans ((gs_if ..).trans (ic9 ((x52_47 ..).trans ((x52_48 ..).trans ((gs_if ..).trans (ic9 ((x52_51 ..).trans ((gs_if ..).trans ((ia9 (by simp)).trans (ic9 rfl rfl)))) rfl)))) rfl)))) rfl))))) rfl))
theorem s52_32 (d : Nat) (h : gd_H) (v0 : Nat) (w1 : Value) (w2 : Value) (z0 : Nat) : go gd_P0 d 52 32 [.ref v0, w1, w2] [.ref z0] h =
    if gT h v0 = 1 then gc gd_P0 d 52 35 38 [.ref v0, .null, .ref z0] [] (run gd_P0 d 55 [.ref v0, .ref z0] h) else none :=
  (x52_32 ..).trans ((x52_33 ..).trans ((x52_34 ..).trans ((x52_35 ..).trans ((gs_if ..).trans ((ia9 (by simp)).trans (ic9 rfl rfl))))))
theorem s52_38 (d : Nat) (h : gd_H) (w0 : Value) (w1 : Value) (w2 : Value) (z0 : Int32) : go gd_P0 d 52 38 [w0, w1, w2] [.int z0] h =
    some (.inl (some (.int z0)), h) :=
  (x52_38 ..)
theorem s52_54 (d : Nat) (h : gd_H) (v0 : Nat) (w1 : Value) (w2 : Value) (z0 : Nat) : go gd_P0 d 52 54 [.ref v0, w1, w2] [.ref z0] h =
    if gT h v0 = 1 then if gT h z0 = 4 then gc gd_P0 d 52 58 61 [.ref v0, .null, .null] [] (run gd_P0 d 148 [.ref z0, .ref (gR h v0 15)] h) else none else none :=
  (x52_54 ..).trans ((x52_55 ..).trans ((gs_if ..).trans (ic9 ((x52_58 ..).trans ((gs_if ..).trans ((ia9 (by simp)).trans (ic9 rfl rfl)))) rfl)))
theorem s52_61 (d : Nat) (h : gd_H) (v0 : Nat) (w1 : Value) (w2 : Value) : go gd_P0 d 52 61 [.ref v0, w1, w2] [] h =
    if gT h v0 = 1 then if gT h (gR h v0 1) = 2 then if gT h v0 = 1 then if gT h v0 = 1 then if gT h v0 = 1 then if gT h v0 = 1 then if gT h ((up1 (gR h) (gR h v0 1) 0 0) v0 15) = 6 then some (.inl (some (.int ((up1 (up1 (up1 (gI h) v0 18 0) v0 19 0) v0 20 0) ((up1 (gR h) (gR h v0 1) 0 0) v0 15) 7))), (wR (wI h (up1 (up1 (up1 (gI h) v0 18 0) v0 19 0) v0 20 0)) (up1 (gR h) (gR h v0 1) 0 0))) else none else none else none else none else none else none else none :=
  (x52_61 ..).trans ((x52_62 ..).trans ((gs_if ..).trans (ic9 ((x52_65 ..).trans ((x52_66 ..).trans ((gs_if ..).trans (ic9 ((x52_69 ..).trans ((x52_70 ..).trans ((x52_71 ..).trans ((gs_if ..).trans (ic9 ((x52_74 ..).trans ((x52_75 ..).trans ((x52_76 ..).trans ((gs_if ..).trans (ic9 ((x52_79 ..).trans ((x52_80 ..).trans ((x52_81 ..).trans ((gs_if ..).trans (ic9 ((x52_84 ..).trans ((x52_85 ..).trans ((gs_if ..).trans (ic9 ((x52_88 ..).trans ((gs_if ..).trans (ic9 ((x52_91 ..)) rfl))) rfl)))) rfl))))) rfl))))) rfl))))) rfl)))) rfl)))
theorem r52 (d : Nat) (h : gd_H) (v0 : Nat) (v1 : Int32) : run gd_P0 (d + 1) 52 [.ref v0, .int v1] h = go gd_P0 d 52 0 [.ref v0, .int v1, .null] [] h := run_succ gd_P0 d 52 [.ref v0, .int v1] h (Nat.le_of_ble_eq_true rfl)
theorem x53_0 (d : Nat) (L st : List Value) (h : gd_H) : go gd_P0 d 53 0 L st h = gs gd_P0 d 53 0 L (i_ild 1 1 L st h) := go_eq gd_P0 d 53 0 L st h
theorem x53_1 (d : Nat) (L st : List Value) (h : gd_H) : go gd_P0 d 53 1 L st h = gs gd_P0 d 53 1 L (i_ild 2 2 L st h) := go_eq gd_P0 d 53 1 L st h
theorem x53_2 (d : Nat) (L st : List Value) (h : gd_H) : go gd_P0 d 53 2 L st h = gs gd_P0 d 53 2 L (i_iclt 11 5 L st h) := go_eq gd_P0 d 53 2 L st h
theorem x53_5 (d : Nat) (L st : List Value) (h : gd_H) : go gd_P0 d 53 5 L st h = gs gd_P0 d 53 5 L (i_ild 1 6 L st h) := go_eq gd_P0 d 53 5 L st h
theorem x53_6 (d : Nat) (L st : List Value) (h : gd_H) : go gd_P0 d 53 6 L st h = gs gd_P0 d 53 6 L (i_ild 3 7 L st h) := go_eq gd_P0 d 53 6 L st h
theorem x53_7 (d : Nat) (L st : List Value) (h : gd_H) : go gd_P0 d 53 7 L st h = gs gd_P0 d 53 7 L (i_icgt 11 10 L st h) := go_eq gd_P0 d 53 7 L st h
theorem x53_10 (d : Nat) (L st : List Value) (h : gd_H) : go gd_P0 d 53 10 L st h = gs gd_P0 d 53 10 L (i_ret L st h) := go_eq gd_P0 d 53 10 L st h
theorem x53_11 (d : Nat) (L st : List Value) (h : gd_H) : go gd_P0 d 53 11 L st h = gs gd_P0 d 53 11 L (i_msk [true, false, false, false] (i_ald 0 12) L st h) := go_eq gd_P0 d 53 11 L st h
theorem x53_12 (d : Nat) (L st : List Value) (h : gd_H) : go gd_P0 d 53 12 L st h = gs gd_P0 d 53 12 L (i_getR 1 7 15 L st h) := go_eq gd_P0 d 53 12 L st h
theorem x53_15 (d : Nat) (L st : List Value) (h : gd_H) : go gd_P0 d 53 15 L st h = gs gd_P0 d 53 15 L (i_psh (.int 1) 16 L st h) := go_eq gd_P0 d 53 15 L st h
theorem x53_16 (d : Nat) (L st : List Value) (h : gd_H) : go gd_P0 d 53 16 L st h = gs gd_P0 d 53 16 L (i_dup2 17 L st h) := go_eq gd_P0 d 53 16 L st h
theorem x53_17 (d : Nat) (L st : List Value) (h : gd_H) : go gd_P0 d 53 17 L st h = gs gd_P0 d 53 17 L (i_aldI 31 18 L st h) := go_eq gd_P0 d 53 17 L st h
theorem x53_18 (d : Nat) (L st : List Value) (h : gd_H) : go gd_P0 d 53 18 L st h = gs gd_P0 d 53 18 L (i_psh (.int 1) 19 L st h) := go_eq gd_P0 d 53 18 L st h
theorem x53_19 (d : Nat) (L st : List Value) (h : gd_H) : go gd_P0 d 53 19 L st h = gs gd_P0 d 53 19 L (i_iadd 20 L st h) := go_eq gd_P0 d 53 19 L st h
theorem x53_20 (d : Nat) (L st : List Value) (h : gd_H) : go gd_P0 d 53 20 L st h = gs gd_P0 d 53 20 L (i_astI 21 L st h) := go_eq gd_P0 d 53 20 L st h
theorem x53_21 (d : Nat) (L st : List Value) (h : gd_H) : go gd_P0 d 53 21 L st h = gs gd_P0 d 53 21 L (i_mk0 25 28 L st h) := go_eq gd_P0 d 53 21 L st h
theorem x53_28 (d : Nat) (L st : List Value) (h : gd_H) : go gd_P0 d 53 28 L st h = gs gd_P0 d 53 28 L (i_thr L st h) := go_eq gd_P0 d 53 28 L st h
theorem s53_0 (d : Nat) (h : gd_H) (v0 : Nat) (v1 : Int32) (v2 : Int32) (v3 : Int32) : go gd_P0 d 53 0 [.ref v0, .int v1, .int v2, .int v3] [] h =
    if v1 < v2 then go gd_P0 d 53 11 [.ref v0, .int v1, .int v2, .int v3] [] h else if v3 < v1 then go gd_P0 d 53 11 [.ref v0, .int v1, .int v2, .int v3] [] h else some (.inl none, h) :=
  (x53_0 ..).trans ((x53_1 ..).trans ((x53_2 ..).trans ((gs_if ..).trans (ic9 (rfl) ((x53_5 ..).trans ((x53_6 ..).trans ((x53_7 ..).trans ((gs_if ..).trans (ic9 (rfl) ((x53_10 ..)))))))))))
theorem s53_11 (d : Nat) (h : gd_H) (v0 : Nat) (w1 : Value) (w2 : Value) (w3 : Value) : go gd_P0 d 53 11 [.ref v0, w1, w2, w3] [] h =
    if gT h v0 = 1 then if gT h (gR h v0 7) = 31 ∧ ¬ ((1 : Int32) < 0 ∨ gL h (gR h v0 7) ≤ Int32.toNatClampNeg (1 : Int32)) then if gT h (gR h v0 7) = 31 ∧ ¬ ((1 : Int32) < 0 ∨ gL h (gR h v0 7) ≤ Int32.toNatClampNeg (1 : Int32)) then go gd_P0 d 53 28 [.ref v0, .null, .null, .null] [.ref (gS h)] (nw (wI h (up1 (gI h) (gR h v0 7) (Int32.toNatClampNeg (1 : Int32)) ((gI h (gR h v0 7) (Int32.toNatClampNeg 1)) + 1))) 25 0 6) else none else none else none :=
  (x53_11 ..).trans ((x53_12 ..).trans ((gs_if ..).trans (ic9 ((x53_15 ..).trans ((x53_16 ..).trans ((x53_17 ..).trans ((gs_if ..).trans (ic9 ((x53_18 ..).trans ((x53_19 ..).trans ((x53_20 ..).trans ((gs_if ..).trans (ic9 ((x53_21 ..)) rfl))))) rfl))))) rfl)))
theorem s53_28 (d : Nat) (h : gd_H) (w0 : Value) (w1 : Value) (w2 : Value) (w3 : Value) (z0 : Nat) : go gd_P0 d 53 28 [w0, w1, w2, w3] [.ref z0] h =
    if 4 ≤ z0 then gx gd_P0 d 53 28 [w0, w1, w2, w3] z0 h else none :=
  (x53_28 ..).trans ((gs_if ..).trans (ic9 rfl rfl))
theorem r53 (d : Nat) (h : gd_H) (v0 : Nat) (v1 : Int32) (v2 : Int32) (v3 : Int32) : run gd_P0 (d + 1) 53 [.ref v0, .int v1, .int v2, .int v3] h = go gd_P0 d 53 0 [.ref v0, .int v1, .int v2, .int v3] [] h := run_succ gd_P0 d 53 [.ref v0, .int v1, .int v2, .int v3] h (Nat.le_of_ble_eq_true rfl)
theorem x54_0 (d : Nat) (L st : List Value) (h : gd_H) : go gd_P0 d 54 0 L st h = gs gd_P0 d 54 0 L (i_ald 0 1 L st h) := go_eq gd_P0 d 54 0 L st h
theorem x54_1 (d : Nat) (L st : List Value) (h : gd_H) : go gd_P0 d 54 1 L st h = gs gd_P0 d 54 1 L (i_psh (.int 0) 2 L st h) := go_eq gd_P0 d 54 1 L st h
theorem x54_2 (d : Nat) (L st : List Value) (h : gd_H) : go gd_P0 d 54 2 L st h = gs gd_P0 d 54 2 L (i_putI 1 16 5 L st h) := go_eq gd_P0 d 54 2 L st h
theorem x54_5 (d : Nat) (L st : List Value) (h : gd_H) : go gd_P0 d 54 5 L st h = gs gd_P0 d 54 5 L (i_ald 0 6 L st h) := go_eq gd_P0 d 54 5 L st h
theorem x54_6 (d : Nat) (L st : List Value) (h : gd_H) : go gd_P0 d 54 6 L st h = gs gd_P0 d 54 6 L (i_psh (.int (-1)) 7 L st h) := go_eq gd_P0 d 54 6 L st h
theorem x54_7 (d : Nat) (L st : List Value) (h : gd_H) : go gd_P0 d 54 7 L st h = gs gd_P0 d 54 7 L (i_putI 1 17 10 L st h) := go_eq gd_P0 d 54 7 L st h
theorem x54_10 (d : Nat) (L st : List Value) (h : gd_H) : go gd_P0 d 54 10 L st h = gs gd_P0 d 54 10 L (i_new 10 4 13 L st h) := go_eq gd_P0 d 54 10 L st h
theorem x54_13 (d : Nat) (L st : List Value) (h : gd_H) : go gd_P0 d 54 13 L st h = gs gd_P0 d 54 13 L (i_dup 14 L st h) := go_eq gd_P0 d 54 13 L st h
theorem x54_14 (d : Nat) (L st : List Value) (h : gd_H) : go gd_P0 d 54 14 L st h = gs gd_P0 d 54 14 L (i_ald 0 15 L st h) := go_eq gd_P0 d 54 14 L st h
theorem x54_15 (d : Nat) (L st : List Value) (h : gd_H) : go gd_P0 d 54 15 L st h = gs gd_P0 d 54 15 L (i_getR 1 0 18 L st h) := go_eq gd_P0 d 54 15 L st h
theorem x54_18 (d : Nat) (L st : List Value) (h : gd_H) : go gd_P0 d 54 18 L st h = gs gd_P0 d 54 18 L (i_ild 1 19 L st h) := go_eq gd_P0 d 54 18 L st h
theorem x54_19 (d : Nat) (L st : List Value) (h : gd_H) : go gd_P0 d 54 19 L st h = gs gd_P0 d 54 19 L (i_cV 96 2 10 22 L st h) := go_eq gd_P0 d 54 19 L st h
theorem x54_22 (d : Nat) (L st : List Value) (h : gd_H) : go gd_P0 d 54 22 L st h = gs gd_P0 d 54 22 L (i_msk [false, false] (i_aret) L st h) := go_eq gd_P0 d 54 22 L st h
theorem s54_0 (d : Nat) (h : gd_H) (v0 : Nat) (v1 : Int32) : go gd_P0 d 54 0 [.ref v0, .int v1] [] h =
    if gT h v0 = 1 then if gT h v0 = 1 then if gT (nw (wI h (up1 (up1 (gI h) v0 16 0) v0 17 (-1))) 10 0 4) v0 = 1 then if gT (nw (wI h (up1 (up1 (gI h) v0 16 0) v0 17 (-1))) 10 0 4) (gS h) = 10 then gc gd_P0 d 54 19 22 [.ref v0, .int v1] [.ref (gS h)] (run gd_P0 d 96 [.ref (gS h), .ref (gR (nw (wI h (up1 (up1 (gI h) v0 16 0) v0 17 (-1))) 10 0 4) v0 0), .int v1] (nw (wI h (up1 (up1 (gI h) v0 16 0) v0 17 (-1))) 10 0 4)) else none else none else none else none :=
  (x54_0 ..).trans ((x54_1 ..).trans ((x54_2 ..).trans ((gs_if ..).trans (ic9 ((x54_5 ..).trans ((x54_6 ..).trans ((x54_7 ..).trans ((gs_if ..).trans (ic9 ((x54_10 ..).trans ((x54_13 ..).trans ((x54_14 ..).trans ((x54_15 ..).trans ((gs_if ..).trans (ic9 ((x54_18 ..).trans ((x54_19 ..).trans ((gs_if ..).trans ((ia9 (by simp)).trans (ic9 rfl rfl))))) rfl)))))) rfl))))) rfl))))
theorem s54_22 (d : Nat) (h : gd_H) (w0 : Value) (w1 : Value) (z0 : Nat) : go gd_P0 d 54 22 [w0, w1] [.ref z0] h =
    some (.inl (some (.ref z0)), h) :=
  (x54_22 ..)
theorem r54 (d : Nat) (h : gd_H) (v0 : Nat) (v1 : Int32) : run gd_P0 (d + 1) 54 [.ref v0, .int v1] h = go gd_P0 d 54 0 [.ref v0, .int v1] [] h := run_succ gd_P0 d 54 [.ref v0, .int v1] h (Nat.le_of_ble_eq_true rfl)
theorem x55_0 (d : Nat) (L st : List Value) (h : gd_H) : go gd_P0 d 55 0 L st h = gs gd_P0 d 55 0 L (i_ald 0 1 L st h) := go_eq gd_P0 d 55 0 L st h
theorem x55_1 (d : Nat) (L st : List Value) (h : gd_H) : go gd_P0 d 55 1 L st h = gs gd_P0 d 55 1 L (i_ald 1 2 L st h) := go_eq gd_P0 d 55 1 L st h
theorem x55_2 (d : Nat) (L st : List Value) (h : gd_H) : go gd_P0 d 55 2 L st h = gs gd_P0 d 55 2 L (i_getI 11 7 5 L st h) := go_eq gd_P0 d 55 2 L st h
theorem x55_5 (d : Nat) (L st : List Value) (h : gd_H) : go gd_P0 d 55 5 L st h = gs gd_P0 d 55 5 L (i_putI 1 17 8 L st h) := go_eq gd_P0 d 55 5 L st h
theorem x55_8 (d : Nat) (L st : List Value) (h : gd_H) : go gd_P0 d 55 8 L st h = gs gd_P0 d 55 8 L (i_ald 1 9 L st h) := go_eq gd_P0 d 55 8 L st h
theorem x55_9 (d : Nat) (L st : List Value) (h : gd_H) : go gd_P0 d 55 9 L st h = gs gd_P0 d 55 9 L (i_getI 11 6 12 L st h) := go_eq gd_P0 d 55 9 L st h
theorem x55_12 (d : Nat) (L st : List Value) (h : gd_H) : go gd_P0 d 55 12 L st h = gs gd_P0 d 55 12 L (i_psh (.int 10) 14 L st h) := go_eq gd_P0 d 55 12 L st h
theorem x55_14 (d : Nat) (L st : List Value) (h : gd_H) : go gd_P0 d 55 14 L st h = gs gd_P0 d 55 14 L (i_isub 15 L st h) := go_eq gd_P0 d 55 14 L st h
theorem x55_15 (d : Nat) (L st : List Value) (h : gd_H) : go gd_P0 d 55 15 L st h = gs gd_P0 d 55 15 L (i_iret L st h) := go_eq gd_P0 d 55 15 L st h
theorem s55_0 (d : Nat) (h : gd_H) (v0 : Nat) (v1 : Nat) : go gd_P0 d 55 0 [.ref v0, .ref v1] [] h =
    if gT h v1 = 11 then if gT h v0 = 1 then if gT h v1 = 11 then some (.inl (some (.int (((up1 (gI h) v0 17 (gI h v1 7)) v1 6) - 10))), (wI h (up1 (gI h) v0 17 (gI h v1 7)))) else none else none else none :=
  (x55_0 ..).trans ((x55_1 ..).trans ((x55_2 ..).trans ((gs_if ..).trans (ic9 ((x55_5 ..).trans ((gs_if ..).trans (ic9 ((x55_8 ..).trans ((x55_9 ..).trans ((gs_if ..).trans (ic9 ((x55_12 ..).trans ((x55_14 ..).trans ((x55_15 ..)))) rfl)))) rfl))) rfl))))
theorem r55 (d : Nat) (h : gd_H) (v0 : Nat) (v1 : Nat) : run gd_P0 (d + 1) 55 [.ref v0, .ref v1] h = go gd_P0 d 55 0 [.ref v0, .ref v1] [] h := run_succ gd_P0 d 55 [.ref v0, .ref v1] h (Nat.le_of_ble_eq_true rfl)
theorem x56_0 (d : Nat) (L st : List Value) (h : gd_H) : go gd_P0 d 56 0 L st h = gs gd_P0 d 56 0 L (i_ald 0 1 L st h) := go_eq gd_P0 d 56 0 L st h
theorem x56_1 (d : Nat) (L st : List Value) (h : gd_H) : go gd_P0 d 56 1 L st h = gs gd_P0 d 56 1 L (i_ild 1 2 L st h) := go_eq gd_P0 d 56 1 L st h
theorem x56_2 (d : Nat) (L st : List Value) (h : gd_H) : go gd_P0 d 56 2 L st h = gs gd_P0 d 56 2 L (i_psh (.int 0) 3 L st h) := go_eq gd_P0 d 56 2 L st h
theorem x56_3 (d : Nat) (L st : List Value) (h : gd_H) : go gd_P0 d 56 3 L st h = gs gd_P0 d 56 3 L (i_ald 0 4 L st h) := go_eq gd_P0 d 56 3 L st h
theorem x56_4 (d : Nat) (L st : List Value) (h : gd_H) : go gd_P0 d 56 4 L st h = gs gd_P0 d 56 4 L (i_getI 1 16 7 L st h) := go_eq gd_P0 d 56 4 L st h
theorem x56_7 (d : Nat) (L st : List Value) (h : gd_H) : go gd_P0 d 56 7 L st h = gs gd_P0 d 56 7 L (i_psh (.int 150) 10 L st h) := go_eq gd_P0 d 56 7 L st h
theorem x56_10 (d : Nat) (L st : List Value) (h : gd_H) : go gd_P0 d 56 10 L st h = gs gd_P0 d 56 10 L (i_mmin 13 L st h) := go_eq gd_P0 d 56 10 L st h
theorem x56_13 (d : Nat) (L st : List Value) (h : gd_H) : go gd_P0 d 56 13 L st h = gs gd_P0 d 56 13 L (i_msk [true, true, false] (i_cV 53 3 1 16) L st h) := go_eq gd_P0 d 56 13 L st h
theorem x56_16 (d : Nat) (L st : List Value) (h : gd_H) : go gd_P0 d 56 16 L st h = gs gd_P0 d 56 16 L (i_msk [true, true, false] (i_ald 0 17) L st h) := go_eq gd_P0 d 56 16 L st h
theorem x56_17 (d : Nat) (L st : List Value) (h : gd_H) : go gd_P0 d 56 17 L st h = gs gd_P0 d 56 17 L (i_getR 1 1 20 L st h) := go_eq gd_P0 d 56 17 L st h
theorem x56_20 (d : Nat) (L st : List Value) (h : gd_H) : go gd_P0 d 56 20 L st h = gs gd_P0 d 56 20 L (i_new 12 2 23 L st h) := go_eq gd_P0 d 56 20 L st h
theorem x56_23 (d : Nat) (L st : List Value) (h : gd_H) : go gd_P0 d 56 23 L st h = gs gd_P0 d 56 23 L (i_dup 24 L st h) := go_eq gd_P0 d 56 23 L st h
theorem x56_24 (d : Nat) (L st : List Value) (h : gd_H) : go gd_P0 d 56 24 L st h = gs gd_P0 d 56 24 L (i_ald 0 25 L st h) := go_eq gd_P0 d 56 24 L st h
theorem x56_25 (d : Nat) (L st : List Value) (h : gd_H) : go gd_P0 d 56 25 L st h = gs gd_P0 d 56 25 L (i_ild 1 26 L st h) := go_eq gd_P0 d 56 25 L st h
theorem x56_26 (d : Nat) (L st : List Value) (h : gd_H) : go gd_P0 d 56 26 L st h = gs gd_P0 d 56 26 L (i_cV 54 1 1 29 L st h) := go_eq gd_P0 d 56 26 L st h
theorem x56_29 (d : Nat) (L st : List Value) (h : gd_H) : go gd_P0 d 56 29 L st h = gs gd_P0 d 56 29 L (i_msk [true, false, false] (i_cV 112 1 12 32) L st h) := go_eq gd_P0 d 56 29 L st h
theorem x56_32 (d : Nat) (L st : List Value) (h : gd_H) : go gd_P0 d 56 32 L st h = gs gd_P0 d 56 32 L (i_msk [true, false, false] (i_cV 113 0 12 35) L st h) := go_eq gd_P0 d 56 32 L st h
theorem x56_35 (d : Nat) (L st : List Value) (h : gd_H) : go gd_P0 d 56 35 L st h = gs gd_P0 d 56 35 L (i_msk [true, false, false] (i_putR 2 0 38) L st h) := go_eq gd_P0 d 56 35 L st h
theorem x56_38 (d : Nat) (L st : List Value) (h : gd_H) : go gd_P0 d 56 38 L st h = gs gd_P0 d 56 38 L (i_goto 48 L st h) := go_eq gd_P0 d 56 38 L st h
theorem x56_41 (d : Nat) (L st : List Value) (h : gd_H) : go gd_P0 d 56 41 L st h = gs gd_P0 d 56 41 L (i_msk [true, false, false] (i_ast 2 42) L st h) := go_eq gd_P0 d 56 41 L st h
theorem x56_42 (d : Nat) (L st : List Value) (h : gd_H) : go gd_P0 d 56 42 L st h = gs gd_P0 d 56 42 L (i_ald 0 43 L st h) := go_eq gd_P0 d 56 42 L st h
theorem x56_43 (d : Nat) (L st : List Value) (h : gd_H) : go gd_P0 d 56 43 L st h = gs gd_P0 d 56 43 L (i_ald 2 44 L st h) := go_eq gd_P0 d 56 43 L st h
theorem x56_44 (d : Nat) (L st : List Value) (h : gd_H) : go gd_P0 d 56 44 L st h = gs gd_P0 d 56 44 L (i_cV 55 1 1 47 L st h) := go_eq gd_P0 d 56 44 L st h
theorem x56_47 (d : Nat) (L st : List Value) (h : gd_H) : go gd_P0 d 56 47 L st h = gs gd_P0 d 56 47 L (i_msk [false, false, false] (i_iret) L st h) := go_eq gd_P0 d 56 47 L st h
theorem x56_48 (d : Nat) (L st : List Value) (h : gd_H) : go gd_P0 d 56 48 L st h = gs gd_P0 d 56 48 L (i_psh (.int 1) 49 L st h) := go_eq gd_P0 d 56 48 L st h
theorem x56_49 (d : Nat) (L st : List Value) (h : gd_H) : go gd_P0 d 56 49 L st h = gs gd_P0 d 56 49 L (i_iret L st h) := go_eq gd_P0 d 56 49 L st h
theorem s56_0 (d : Nat) (h : gd_H) (v0 : Nat) (v1 : Int32) : go gd_P0 d 56 0 [.ref v0, .int v1, .null] [] h =
    if gT h v0 = 1 then go gd_P0 d 56 13 [.ref v0, .int v1, .null] [.int (if 150 < (gI h v0 16) then 150 else (gI h v0 16)), .int 0, .int v1, .ref v0] h else none :=
  (x56_0 ..).trans ((x56_1 ..).trans ((x56_2 ..).trans ((x56_3 ..).trans ((x56_4 ..).trans ((gs_if ..).trans (ic9 ((x56_7 ..).trans ((x56_10 ..))) rfl))))))
theorem s56_13 (d : Nat) (h : gd_H) (v0 : Nat) (v1 : Int32) (w2 : Value) (z0 : Int32) (z1 : Int32) (z2 : Int32) (z3 : Nat) : go gd_P0 d 56 13 [.ref v0, .int v1, w2] [.int z0, .int z1, .int z2, .ref z3] h =
    if gT h z3 = 1 then gc gd_P0 d 56 13 16 [.ref v0, .int v1, .null] [] (run gd_P0 d 53 [.ref z3, .int z2, .int z1, .int z0] h) else none :=
  (x56_13 ..).trans ((gs_nif ..).trans ((ia9 (by simp)).trans (ic9 rfl rfl)))
theorem s56_16 (d : Nat) (h : gd_H) (v0 : Nat) (v1 : Int32) (w2 : Value) : go gd_P0 d 56 16 [.ref v0, .int v1, w2] [] h =
    if gT h v0 = 1 then if gT (nw h 12 0 2) v0 = 1 then gc gd_P0 d 56 26 29 [.ref v0, .int v1, .null] [.ref (gS h), .ref (gS h), .ref (gR h v0 1)] (run gd_P0 d 54 [.ref v0, .int v1] (nw h 12 0 2)) else none else none :=
  (x56_16 ..).trans ((x56_17 ..).trans ((gs_if ..).trans (ic9 ((x56_20 ..).trans ((x56_23 ..).trans ((x56_24 ..).trans ((x56_25 ..).trans ((x56_26 ..).trans ((gs_if ..).trans ((ia9 (by simp)).trans (ic9 rfl rfl)))))))) rfl)))
theorem s56_29 (d : Nat) (h : gd_H) (v0 : Nat) (w1 : Value) (w2 : Value) (z0 : Nat) (z1 : Nat) (z2 : Nat) (z3 : Nat) : go gd_P0 d 56 29 [.ref v0, w1, w2] [.ref z0, .ref z1, .ref z2, .ref z3] h =
    if gT h z1 = 12 then gc gd_P0 d 56 29 32 [.ref v0, .null, .null] [.ref z2, .ref z3] (run gd_P0 d 112 [.ref z1, .ref z0] h) else none :=
  (x56_29 ..).trans ((gs_nif ..).trans ((ia9 (by simp)).trans (ic9 rfl rfl)))
theorem s56_32 (d : Nat) (h : gd_H) (v0 : Nat) (w1 : Value) (w2 : Value) (z0 : Nat) (z1 : Nat) : go gd_P0 d 56 32 [.ref v0, w1, w2] [.ref z0, .ref z1] h =
    if gT h z0 = 12 then gc gd_P0 d 56 32 35 [.ref v0, .null, .null] [.ref z1] (run gd_P0 d 113 [.ref z0] h) else none :=
  (x56_32 ..).trans ((gs_nif ..).trans ((ia9 (by simp)).trans (ic9 rfl rfl)))
theorem s56_35 (d : Nat) (h : gd_H) (v0 : Nat) (w1 : Value) (w2 : Value) (z0 : Nat) (z1 : Nat) : go gd_P0 d 56 35 [.ref v0, w1, w2] [.ref z0, .ref z1] h =
    if gT h z1 = 2 then some (.inl (some (.int 1)), (wR h (up1 (gR h) z1 0 z0))) else none :=
  (x56_35 ..).trans ((gs_nif ..).trans (ic9 ((x56_38 ..).trans ((x56_48 ..).trans ((x56_49 ..)))) rfl))
theorem s56_41 (d : Nat) (h : gd_H) (v0 : Nat) (w1 : Value) (w2 : Value) (z0 : Nat) : go gd_P0 d 56 41 [.ref v0, w1, w2] [.ref z0] h =
    if gT h v0 = 1 then gc gd_P0 d 56 44 47 [.ref v0, .null, .ref z0] [] (run gd_P0 d 55 [.ref v0, .ref z0] h) else none :=
  (x56_41 ..).trans ((x56_42 ..).trans ((x56_43 ..).trans ((x56_44 ..).trans ((gs_if ..).trans ((ia9 (by simp)).trans (ic9 rfl rfl))))))
theorem s56_47 (d : Nat) (h : gd_H) (w0 : Value) (w1 : Value) (w2 : Value) (z0 : Int32) : go gd_P0 d 56 47 [w0, w1, w2] [.int z0] h =
    some (.inl (some (.int z0)), h) :=
  (x56_47 ..)
theorem r56 (d : Nat) (h : gd_H) (v0 : Nat) (v1 : Int32) : run gd_P0 (d + 1) 56 [.ref v0, .int v1] h = go gd_P0 d 56 0 [.ref v0, .int v1, .null] [] h := run_succ gd_P0 d 56 [.ref v0, .int v1] h (Nat.le_of_ble_eq_true rfl)
theorem x57_0 (d : Nat) (L st : List Value) (h : gd_H) : go gd_P0 d 57 0 L st h = gs gd_P0 d 57 0 L (i_ald 0 1 L st h) := go_eq gd_P0 d 57 0 L st h
theorem x57_1 (d : Nat) (L st : List Value) (h : gd_H) : go gd_P0 d 57 1 L st h = gs gd_P0 d 57 1 L (i_ild 1 2 L st h) := go_eq gd_P0 d 57 1 L st h
theorem x57_2 (d : Nat) (L st : List Value) (h : gd_H) : go gd_P0 d 57 2 L st h = gs gd_P0 d 57 2 L (i_psh (.int 0) 3 L st h) := go_eq gd_P0 d 57 2 L st h
theorem x57_3 (d : Nat) (L st : List Value) (h : gd_H) : go gd_P0 d 57 3 L st h = gs gd_P0 d 57 3 L (i_ald 0 4 L st h) := go_eq gd_P0 d 57 3 L st h
theorem x57_4 (d : Nat) (L st : List Value) (h : gd_H) : go gd_P0 d 57 4 L st h = gs gd_P0 d 57 4 L (i_getI 1 16 7 L st h) := go_eq gd_P0 d 57 4 L st h
theorem x57_7 (d : Nat) (L st : List Value) (h : gd_H) : go gd_P0 d 57 7 L st h = gs gd_P0 d 57 7 L (i_psh (.int 150) 10 L st h) := go_eq gd_P0 d 57 7 L st h
theorem x57_10 (d : Nat) (L st : List Value) (h : gd_H) : go gd_P0 d 57 10 L st h = gs gd_P0 d 57 10 L (i_mmin 13 L st h) := go_eq gd_P0 d 57 10 L st h
theorem x57_13 (d : Nat) (L st : List Value) (h : gd_H) : go gd_P0 d 57 13 L st h = gs gd_P0 d 57 13 L (i_msk [true, true, false, false, false] (i_cV 53 3 1 16) L st h) := go_eq gd_P0 d 57 13 L st h
theorem x57_16 (d : Nat) (L st : List Value) (h : gd_H) : go gd_P0 d 57 16 L st h = gs gd_P0 d 57 16 L (i_msk [true, true, false, false, false] (i_ald 0 17) L st h) := go_eq gd_P0 d 57 16 L st h
theorem x57_17 (d : Nat) (L st : List Value) (h : gd_H) : go gd_P0 d 57 17 L st h = gs gd_P0 d 57 17 L (i_getR 1 2 20 L st h) := go_eq gd_P0 d 57 17 L st h
theorem x57_20 (d : Nat) (L st : List Value) (h : gd_H) : go gd_P0 d 57 20 L st h = gs gd_P0 d 57 20 L (i_getI 3 1 23 L st h) := go_eq gd_P0 d 57 20 L st h
theorem x57_23 (d : Nat) (L st : List Value) (h : gd_H) : go gd_P0 d 57 23 L st h = gs gd_P0 d 57 23 L (i_psh (.int 16) 25 L st h) := go_eq gd_P0 d 57 23 L st h
theorem x57_25 (d : Nat) (L st : List Value) (h : gd_H) : go gd_P0 d 57 25 L st h = gs gd_P0 d 57 25 L (i_icne 41 28 L st h) := go_eq gd_P0 d 57 25 L st h
theorem x57_28 (d : Nat) (L st : List Value) (h : gd_H) : go gd_P0 d 57 28 L st h = gs gd_P0 d 57 28 L (i_ald 0 29 L st h) := go_eq gd_P0 d 57 28 L st h
theorem x57_29 (d : Nat) (L st : List Value) (h : gd_H) : go gd_P0 d 57 29 L st h = gs gd_P0 d 57 29 L (i_psh (.int 0) 30 L st h) := go_eq gd_P0 d 57 29 L st h
theorem x57_30 (d : Nat) (L st : List Value) (h : gd_H) : go gd_P0 d 57 30 L st h = gs gd_P0 d 57 30 L (i_putI 1 16 33 L st h) := go_eq gd_P0 d 57 30 L st h
theorem x57_33 (d : Nat) (L st : List Value) (h : gd_H) : go gd_P0 d 57 33 L st h = gs gd_P0 d 57 33 L (i_ald 0 34 L st h) := go_eq gd_P0 d 57 33 L st h
theorem x57_34 (d : Nat) (L st : List Value) (h : gd_H) : go gd_P0 d 57 34 L st h = gs gd_P0 d 57 34 L (i_psh (.int (-1)) 35 L st h) := go_eq gd_P0 d 57 34 L st h
theorem x57_35 (d : Nat) (L st : List Value) (h : gd_H) : go gd_P0 d 57 35 L st h = gs gd_P0 d 57 35 L (i_putI 1 17 38 L st h) := go_eq gd_P0 d 57 35 L st h
theorem x57_38 (d : Nat) (L st : List Value) (h : gd_H) : go gd_P0 d 57 38 L st h = gs gd_P0 d 57 38 L (i_psh (.int (-20)) 40 L st h) := go_eq gd_P0 d 57 38 L st h
theorem x57_40 (d : Nat) (L st : List Value) (h : gd_H) : go gd_P0 d 57 40 L st h = gs gd_P0 d 57 40 L (i_iret L st h) := go_eq gd_P0 d 57 40 L st h
theorem x57_41 (d : Nat) (L st : List Value) (h : gd_H) : go gd_P0 d 57 41 L st h = gs gd_P0 d 57 41 L (i_psh (.ref 0) 42 L st h) := go_eq gd_P0 d 57 41 L st h
theorem x57_42 (d : Nat) (L st : List Value) (h : gd_H) : go gd_P0 d 57 42 L st h = gs gd_P0 d 57 42 L (i_ast 2 43 L st h) := go_eq gd_P0 d 57 42 L st h
theorem x57_43 (d : Nat) (L st : List Value) (h : gd_H) : go gd_P0 d 57 43 L st h = gs gd_P0 d 57 43 L (i_new 16 3 46 L st h) := go_eq gd_P0 d 57 43 L st h
theorem x57_46 (d : Nat) (L st : List Value) (h : gd_H) : go gd_P0 d 57 46 L st h = gs gd_P0 d 57 46 L (i_dup 47 L st h) := go_eq gd_P0 d 57 46 L st h
theorem x57_47 (d : Nat) (L st : List Value) (h : gd_H) : go gd_P0 d 57 47 L st h = gs gd_P0 d 57 47 L (i_ald 0 48 L st h) := go_eq gd_P0 d 57 47 L st h
theorem x57_48 (d : Nat) (L st : List Value) (h : gd_H) : go gd_P0 d 57 48 L st h = gs gd_P0 d 57 48 L (i_ild 1 49 L st h) := go_eq gd_P0 d 57 48 L st h
theorem x57_49 (d : Nat) (L st : List Value) (h : gd_H) : go gd_P0 d 57 49 L st h = gs gd_P0 d 57 49 L (i_cV 54 1 1 52 L st h) := go_eq gd_P0 d 57 49 L st h
theorem x57_52 (d : Nat) (L st : List Value) (h : gd_H) : go gd_P0 d 57 52 L st h = gs gd_P0 d 57 52 L (i_msk [true, false, false, false, false] (i_ald 0 53) L st h) := go_eq gd_P0 d 57 52 L st h
theorem x57_53 (d : Nat) (L st : List Value) (h : gd_H) : go gd_P0 d 57 53 L st h = gs gd_P0 d 57 53 L (i_getR 1 15 56 L st h) := go_eq gd_P0 d 57 53 L st h
theorem x57_56 (d : Nat) (L st : List Value) (h : gd_H) : go gd_P0 d 57 56 L st h = gs gd_P0 d 57 56 L (i_cV 123 2 16 59 L st h) := go_eq gd_P0 d 57 56 L st h
theorem x57_59 (d : Nat) (L st : List Value) (h : gd_H) : go gd_P0 d 57 59 L st h = gs gd_P0 d 57 59 L (i_msk [true, false, false, false, false] (i_cV 124 0 16 62) L st h) := go_eq gd_P0 d 57 59 L st h
theorem x57_62 (d : Nat) (L st : List Value) (h : gd_H) : go gd_P0 d 57 62 L st h = gs gd_P0 d 57 62 L (i_msk [true, false, false, false, false] (i_ast 2 63) L st h) := go_eq gd_P0 d 57 62 L st h
theorem x57_63 (d : Nat) (L st : List Value) (h : gd_H) : go gd_P0 d 57 63 L st h = gs gd_P0 d 57 63 L (i_goto 73 L st h) := go_eq gd_P0 d 57 63 L st h
theorem x57_66 (d : Nat) (L st : List Value) (h : gd_H) : go gd_P0 d 57 66 L st h = gs gd_P0 d 57 66 L (i_msk [true, false, false, false, false] (i_ast 3 67) L st h) := go_eq gd_P0 d 57 66 L st h
theorem x57_67 (d : Nat) (L st : List Value) (h : gd_H) : go gd_P0 d 57 67 L st h = gs gd_P0 d 57 67 L (i_ald 0 68 L st h) := go_eq gd_P0 d 57 67 L st h
theorem x57_68 (d : Nat) (L st : List Value) (h : gd_H) : go gd_P0 d 57 68 L st h = gs gd_P0 d 57 68 L (i_ald 3 69 L st h) := go_eq gd_P0 d 57 68 L st h
theorem x57_69 (d : Nat) (L st : List Value) (h : gd_H) : go gd_P0 d 57 69 L st h = gs gd_P0 d 57 69 L (i_cV 55 1 1 72 L st h) := go_eq gd_P0 d 57 69 L st h
theorem x57_72 (d : Nat) (L st : List Value) (h : gd_H) : go gd_P0 d 57 72 L st h = gs gd_P0 d 57 72 L (i_msk [false, false, false, false, false] (i_iret) L st h) := go_eq gd_P0 d 57 72 L st h
theorem x57_73 (d : Nat) (L st : List Value) (h : gd_H) : go gd_P0 d 57 73 L st h = gs gd_P0 d 57 73 L (i_ald 0 74 L st h) := go_eq gd_P0 d 57 73 L st h
theorem x57_74 (d : Nat) (L st : List Value) (h : gd_H) : go gd_P0 d 57 74 L st h = gs gd_P0 d 57 74 L (i_getR 1 2 77 L st h) := go_eq gd_P0 d 57 74 L st h
theorem x57_77 (d : Nat) (L st : List Value) (h : gd_H) : go gd_P0 d 57 77 L st h = gs gd_P0 d 57 77 L (i_cV 145 0 3 80 L st h) := go_eq gd_P0 d 57 77 L st h
theorem x57_80 (d : Nat) (L st : List Value) (h : gd_H) : go gd_P0 d 57 80 L st h = gs gd_P0 d 57 80 L (i_msk [true, false, true, false, false] (i_ast 3 81) L st h) := go_eq gd_P0 d 57 80 L st h
theorem x57_81 (d : Nat) (L st : List Value) (h : gd_H) : go gd_P0 d 57 81 L st h = gs gd_P0 d 57 81 L (i_ald 0 82 L st h) := go_eq gd_P0 d 57 81 L st h
theorem x57_82 (d : Nat) (L st : List Value) (h : gd_H) : go gd_P0 d 57 82 L st h = gs gd_P0 d 57 82 L (i_getR 1 2 85 L st h) := go_eq gd_P0 d 57 82 L st h
theorem x57_85 (d : Nat) (L st : List Value) (h : gd_H) : go gd_P0 d 57 85 L st h = gs gd_P0 d 57 85 L (i_dup 86 L st h) := go_eq gd_P0 d 57 85 L st h
theorem x57_86 (d : Nat) (L st : List Value) (h : gd_H) : go gd_P0 d 57 86 L st h = gs gd_P0 d 57 86 L (i_getI 3 1 89 L st h) := go_eq gd_P0 d 57 86 L st h
theorem x57_89 (d : Nat) (L st : List Value) (h : gd_H) : go gd_P0 d 57 89 L st h = gs gd_P0 d 57 89 L (i_psh (.int 1) 90 L st h) := go_eq gd_P0 d 57 89 L st h
theorem x57_90 (d : Nat) (L st : List Value) (h : gd_H) : go gd_P0 d 57 90 L st h = gs gd_P0 d 57 90 L (i_iadd 91 L st h) := go_eq gd_P0 d 57 90 L st h
theorem x57_91 (d : Nat) (L st : List Value) (h : gd_H) : go gd_P0 d 57 91 L st h = gs gd_P0 d 57 91 L (i_putI 3 1 94 L st h) := go_eq gd_P0 d 57 91 L st h
theorem x57_94 (d : Nat) (L st : List Value) (h : gd_H) : go gd_P0 d 57 94 L st h = gs gd_P0 d 57 94 L (i_new 22 4 97 L st h) := go_eq gd_P0 d 57 94 L st h
theorem x57_97 (d : Nat) (L st : List Value) (h : gd_H) : go gd_P0 d 57 97 L st h = gs gd_P0 d 57 97 L (i_dup 98 L st h) := go_eq gd_P0 d 57 97 L st h
theorem x57_98 (d : Nat) (L st : List Value) (h : gd_H) : go gd_P0 d 57 98 L st h = gs gd_P0 d 57 98 L (i_ald 0 99 L st h) := go_eq gd_P0 d 57 98 L st h
theorem x57_99 (d : Nat) (L st : List Value) (h : gd_H) : go gd_P0 d 57 99 L st h = gs gd_P0 d 57 99 L (i_getR 1 2 102 L st h) := go_eq gd_P0 d 57 99 L st h
theorem x57_102 (d : Nat) (L st : List Value) (h : gd_H) : go gd_P0 d 57 102 L st h = gs gd_P0 d 57 102 L (i_cV 145 0 3 105 L st h) := go_eq gd_P0 d 57 102 L st h
theorem x57_105 (d : Nat) (L st : List Value) (h : gd_H) : go gd_P0 d 57 105 L st h = gs gd_P0 d 57 105 L (i_msk [true, false, true, true, false] (i_ald 3 106) L st h) := go_eq gd_P0 d 57 105 L st h
theorem x57_106 (d : Nat) (L st : List Value) (h : gd_H) : go gd_P0 d 57 106 L st h = gs gd_P0 d 57 106 L (i_cV 150 1 4 109 L st h) := go_eq gd_P0 d 57 106 L st h
theorem x57_109 (d : Nat) (L st : List Value) (h : gd_H) : go gd_P0 d 57 109 L st h = gs gd_P0 d 57 109 L (i_msk [true, false, true, false, false] (i_cV 140 1 22 112) L st h) := go_eq gd_P0 d 57 109 L st h
theorem x57_112 (d : Nat) (L st : List Value) (h : gd_H) : go gd_P0 d 57 112 L st h = gs gd_P0 d 57 112 L (i_msk [true, false, true, false, false] (i_ast 4 114) L st h) := go_eq gd_P0 d 57 112 L st h
theorem x57_114 (d : Nat) (L st : List Value) (h : gd_H) : go gd_P0 d 57 114 L st h = gs gd_P0 d 57 114 L (i_ald 2 115 L st h) := go_eq gd_P0 d 57 114 L st h
theorem x57_115 (d : Nat) (L st : List Value) (h : gd_H) : go gd_P0 d 57 115 L st h = gs gd_P0 d 57 115 L (i_ald 4 117 L st h) := go_eq gd_P0 d 57 115 L st h
theorem x57_117 (d : Nat) (L st : List Value) (h : gd_H) : go gd_P0 d 57 117 L st h = gs gd_P0 d 57 117 L (i_cV 131 1 18 120 L st h) := go_eq gd_P0 d 57 117 L st h
theorem x57_120 (d : Nat) (L st : List Value) (h : gd_H) : go gd_P0 d 57 120 L st h = gs gd_P0 d 57 120 L (i_msk [true, false, false, false, true] (i_ald 0 121) L st h) := go_eq gd_P0 d 57 120 L st h
theorem x57_121 (d : Nat) (L st : List Value) (h : gd_H) : go gd_P0 d 57 121 L st h = gs gd_P0 d 57 121 L (i_ald 4 123 L st h) := go_eq gd_P0 d 57 121 L st h
theorem x57_123 (d : Nat) (L st : List Value) (h : gd_H) : go gd_P0 d 57 123 L st h = gs gd_P0 d 57 123 L (i_getI 22 3 126 L st h) := go_eq gd_P0 d 57 123 L st h
theorem x57_126 (d : Nat) (L st : List Value) (h : gd_H) : go gd_P0 d 57 126 L st h = gs gd_P0 d 57 126 L (i_putI 1 19 129 L st h) := go_eq gd_P0 d 57 126 L st h
theorem x57_129 (d : Nat) (L st : List Value) (h : gd_H) : go gd_P0 d 57 129 L st h = gs gd_P0 d 57 129 L (i_ald 4 131 L st h) := go_eq gd_P0 d 57 129 L st h
theorem x57_131 (d : Nat) (L st : List Value) (h : gd_H) : go gd_P0 d 57 131 L st h = gs gd_P0 d 57 131 L (i_getI 22 2 134 L st h) := go_eq gd_P0 d 57 131 L st h
theorem x57_134 (d : Nat) (L st : List Value) (h : gd_H) : go gd_P0 d 57 134 L st h = gs gd_P0 d 57 134 L (i_iret L st h) := go_eq gd_P0 d 57 134 L st h
theorem s57_0 (d : Nat) (h : gd_H) (v0 : Nat) (v1 : Int32) : go gd_P0 d 57 0 [.ref v0, .int v1, .null, .null, .null] [] h =
    if gT h v0 = 1 then go gd_P0 d 57 13 [.ref v0, .int v1, .null, .null, .null] [.int (if 150 < (gI h v0 16) then 150 else (gI h v0 16)), .int 0, .int v1, .ref v0] h else none :=
  (x57_0 ..).trans ((x57_1 ..).trans ((x57_2 ..).trans ((x57_3 ..).trans ((x57_4 ..).trans ((gs_if ..).trans (ic9 ((x57_7 ..).trans ((x57_10 ..))) rfl))))))
theorem s57_13 (d : Nat) (h : gd_H) (v0 : Nat) (v1 : Int32) (w2 : Value) (w3 : Value) (w4 : Value) (z0 : Int32) (z1 : Int32) (z2 : Int32) (z3 : Nat) : go gd_P0 d 57 13 [.ref v0, .int v1, w2, w3, w4] [.int z0, .int z1, .int z2, .ref z3] h =
    if gT h z3 = 1 then gc gd_P0 d 57 13 16 [.ref v0, .int v1, .null, .null, .null] [] (run gd_P0 d 53 [.ref z3, .int z2, .int z1, .int z0] h) else none :=
  (x57_13 ..).trans ((gs_nif ..).trans ((ia9 (by simp)).trans (ic9 rfl rfl)))
theorem s57_16 (d : Nat) (h : gd_H) (v0 : Nat) (v1 : Int32) (w2 : Value) (w3 : Value) (w4 : Value) : go gd_P0 d 57 16 [.ref v0, .int v1, w2, w3, w4] [] h =
    if gT h v0 = 1 then if gT h (gR h v0 2) = 3 then if (gI h (gR h v0 2) 1) = 16 then if gT h v0 = 1 then if gT h v0 = 1 then some (.inl (some (.int (-20))), (wI h (up1 (up1 (gI h) v0 16 0) v0 17 (-1)))) else none else none else if gT (nw h 16 0 3) v0 = 1 then gc gd_P0 d 57 49 52 [.ref v0, .int v1, .ref 0, .null, .null] [.ref (gS h), .ref (gS h)] (run gd_P0 d 54 [.ref v0, .int v1] (nw h 16 0 3)) else none else none else none :=
  (x57_16 ..).trans ((x57_17 ..).trans ((gs_if ..).trans (ic9 ((x57_20 ..).trans ((gs_if ..).trans (ic9 ((x57_23 ..).trans ((x57_25 ..).trans ((gs_if ..).trans (ic9 ((x57_28 ..).trans ((x57_29 ..).trans ((x57_30 ..).trans ((gs_if ..).trans (ic9 ((x57_33 ..).trans ((x57_34 ..).trans ((x57_35 ..).trans ((gs_if ..).trans (ic9 ((x57_38 ..).trans ((x57_40 ..))) rfl))))) rfl))))) ((x57_41 ..).trans ((x57_42 ..).trans ((x57_43 ..).trans ((x57_46 ..).trans ((x57_47 ..).trans ((x57_48 ..).trans ((x57_49 ..).trans ((gs_if ..).trans ((ia9 (by simp)).trans (ic9 rfl rfl)))))))))))))) rfl))) rfl)))
theorem s57_52 (d : Nat) (h : gd_H) (v0 : Nat) (w1 : Value) (w2 : Value) (w3 : Value) (w4 : Value) (z0 : Nat) (z1 : Nat) (z2 : Nat) : go gd_P0 d 57 52 [.ref v0, w1, w2, w3, w4] [.ref z0, .ref z1, .ref z2] h =
    if gT h v0 = 1 then if gT h z1 = 16 then gc gd_P0 d 57 56 59 [.ref v0, .null, .null, .null, .null] [.ref z2] (run gd_P0 d 123 [.ref z1, .ref z0, .ref (gR h v0 15)] h) else none else none :=
  (x57_52 ..).trans ((x57_53 ..).trans ((gs_if ..).trans (ic9 ((x57_56 ..).trans ((gs_if ..).trans ((ia9 (by simp)).trans (ic9 rfl rfl)))) rfl)))
theorem s57_59 (d : Nat) (h : gd_H) (v0 : Nat) (w1 : Value) (w2 : Value) (w3 : Value) (w4 : Value) (z0 : Nat) : go gd_P0 d 57 59 [.ref v0, w1, w2, w3, w4] [.ref z0] h =
    if gT h z0 = 16 then gc gd_P0 d 57 59 62 [.ref v0, .null, .null, .null, .null] [] (run gd_P0 d 124 [.ref z0] h) else none :=
  (x57_59 ..).trans ((gs_nif ..).trans ((ia9 (by simp)).trans (ic9 rfl rfl)))
theorem s57_62 (d : Nat) (h : gd_H) (v0 : Nat) (w1 : Value) (w2 : Value) (w3 : Value) (w4 : Value) (z0 : Nat) : go gd_P0 d 57 62 [.ref v0, w1, w2, w3, w4] [.ref z0] h =
    if gT h v0 = 1 then if gT h (gR h v0 2) = 3 then gc gd_P0 d 57 77 80 [.ref v0, .null, .ref z0, .null, .null] [] (run gd_P0 d 145 [.ref (gR h v0 2)] h) else none else none :=
  (x57_62 ..).trans ((x57_63 ..).trans ((x57_73 ..).trans ((x57_74 ..).trans ((gs_if ..).trans (ic9 ((x57_77 ..).trans ((gs_if ..).trans ((ia9 (by simp)).trans (ic9 rfl rfl)))) rfl)))))
theorem s57_66 (d : Nat) (h : gd_H) (v0 : Nat) (w1 : Value) (w2 : Value) (w3 : Value) (w4 : Value) (z0 : Nat) : go gd_P0 d 57 66 [.ref v0, w1, w2, w3, w4] [.ref z0] h =
    if gT h v0 = 1 then gc gd_P0 d 57 69 72 [.ref v0, .null, .null, .ref z0, .null] [] (run gd_P0 d 55 [.ref v0, .ref z0] h) else none :=
  (x57_66 ..).trans ((x57_67 ..).trans ((x57_68 ..).trans ((x57_69 ..).trans ((gs_if ..).trans ((ia9 (by simp)).trans (ic9 rfl rfl))))))
theorem s57_72 (d : Nat) (h : gd_H) (w0 : Value) (w1 : Value) (w2 : Value) (w3 : Value) (w4 : Value) (z0 : Int32) : go gd_P0 d 57 72 [w0, w1, w2, w3, w4] [.int z0] h =
    some (.inl (some (.int z0)), h) :=
  (x57_72 ..)
theorem s57_80 (d : Nat) (h : gd_H) (v0 : Nat) (w1 : Value) (v2 : Nat) (w3 : Value) (w4 : Value) (z0 : Nat) : go gd_P0 d 57 80 [.ref v0, w1, .ref v2, w3, w4] [.ref z0] h =
    if gT h v0 = 1 then if gT h (gR h v0 2) = 3 then if gT h (gR h v0 2) = 3 then if gT (nw (wI h (up1 (gI h) (gR h v0 2) 1 ((gI h (gR h v0 2) 1) + 1))) 22 0 4) v0 = 1 then if gT (nw (wI h (up1 (gI h) (gR h v0 2) 1 ((gI h (gR h v0 2) 1) + 1))) 22 0 4) (gR (nw (wI h (up1 (gI h) (gR h v0 2) 1 ((gI h (gR h v0 2) 1) + 1))) 22 0 4) v0 2) = 3 then gc gd_P0 d 57 102 105 [.ref v0, .null, .ref v2, .ref z0, .null] [.ref (gS h), .ref (gS h)] (run gd_P0 d 145 [.ref (gR (nw (wI h (up1 (gI h) (gR h v0 2) 1 ((gI h (gR h v0 2) 1) + 1))) 22 0 4) v0 2)] (nw (wI h (up1 (gI h) (gR h v0 2) 1 ((gI h (gR h v0 2) 1) + 1))) 22 0 4)) else none else none else none else none else none :=
  (x57_80 ..).trans ((x57_81 ..).trans ((x57_82 ..).trans ((gs_if ..).trans (ic9 ((x57_85 ..).trans ((x57_86 ..).trans ((gs_if ..).trans (ic9 ((x57_89 ..).trans ((x57_90 ..).trans ((x57_91 ..).trans ((gs_if ..).trans (ic9 ((x57_94 ..).trans ((x57_97 ..).trans ((x57_98 ..).trans ((x57_99 ..).trans ((gs_if ..).trans (ic9 ((x57_102 ..).trans ((gs_if ..).trans ((ia9 (by simp)).trans (ic9 rfl rfl)))) rfl)))))) rfl))))) rfl)))) rfl))))
theorem s57_105 (d : Nat) (h : gd_H) (v0 : Nat) (w1 : Value) (v2 : Nat) (v3 : Nat) (w4 : Value) (z0 : Nat) (z1 : Nat) (z2 : Nat) : go gd_P0 d 57 105 [.ref v0, w1, .ref v2, .ref v3, w4] [.ref z0, .ref z1, .ref z2] h =
    if gT h z0 = 4 then gc gd_P0 d 57 106 109 [.ref v0, .null, .ref v2, .ref v3, .null] [.ref z1, .ref z2] (run gd_P0 d 150 [.ref z0, .ref v3] h) else none :=
  (x57_105 ..).trans ((x57_106 ..).trans ((gs_if ..).trans ((ia9 (by simp)).trans (ic9 rfl rfl))))
theorem s57_109 (d : Nat) (h : gd_H) (v0 : Nat) (w1 : Value) (v2 : Nat) (w3 : Value) (w4 : Value) (z0 : Nat) (z1 : Nat) (z2 : Nat) : go gd_P0 d 57 109 [.ref v0, w1, .ref v2, w3, w4] [.ref z0, .ref z1, .ref z2] h =
    if gT h z1 = 22 then gc gd_P0 d 57 109 112 [.ref v0, .null, .ref v2, .null, .null] [.ref z2] (run gd_P0 d 140 [.ref z1, .ref z0] h) else none :=
  (x57_109 ..).trans ((gs_nif ..).trans ((ia9 (by simp)).trans (ic9 rfl rfl)))
theorem s57_112 (d : Nat) (h : gd_H) (v0 : Nat) (w1 : Value) (v2 : Nat) (w3 : Value) (w4 : Value) (z0 : Nat) : go gd_P0 d 57 112 [.ref v0, w1, .ref v2, w3, w4] [.ref z0] h =
    if gT h v2 = 18 then gc gd_P0 d 57 117 120 [.ref v0, .null, .ref v2, .null, .ref z0] [] (run gd_P0 d 131 [.ref v2, .ref z0] h) else none :=
  (x57_112 ..).trans ((x57_114 ..).trans ((x57_115 ..).trans ((x57_117 ..).trans ((gs_if ..).trans ((ia9 (by simp)).trans (ic9 rfl rfl))))))
theorem s57_120 (d : Nat) (h : gd_H) (v0 : Nat) (w1 : Value) (w2 : Value) (w3 : Value) (v4 : Nat) : go gd_P0 d 57 120 [.ref v0, w1, w2, w3, .ref v4] [] h =
    if gT h v4 = 22 then if gT h v0 = 1 then if gT h v4 = 22 then some (.inl (some (.int ((up1 (gI h) v0 19 (gI h v4 3)) v4 2))), (wI h (up1 (gI h) v0 19 (gI h v4 3)))) else none else none else none :=
  (x57_120 ..).trans ((x57_121 ..).trans ((x57_123 ..).trans ((gs_if ..).trans (ic9 ((x57_126 ..).trans ((gs_if ..).trans (ic9 ((x57_129 ..).trans ((x57_131 ..).trans ((gs_if ..).trans (ic9 ((x57_134 ..)) rfl)))) rfl))) rfl))))
theorem r57 (d : Nat) (h : gd_H) (v0 : Nat) (v1 : Int32) : run gd_P0 (d + 1) 57 [.ref v0, .int v1] h = go gd_P0 d 57 0 [.ref v0, .int v1, .null, .null, .null] [] h := run_succ gd_P0 d 57 [.ref v0, .int v1] h (Nat.le_of_ble_eq_true rfl)
theorem x58_0 (d : Nat) (L st : List Value) (h : gd_H) : go gd_P0 d 58 0 L st h = gs gd_P0 d 58 0 L (i_ald 0 1 L st h) := go_eq gd_P0 d 58 0 L st h
theorem x58_1 (d : Nat) (L st : List Value) (h : gd_H) : go gd_P0 d 58 1 L st h = gs gd_P0 d 58 1 L (i_ild 1 2 L st h) := go_eq gd_P0 d 58 1 L st h
theorem x58_2 (d : Nat) (L st : List Value) (h : gd_H) : go gd_P0 d 58 2 L st h = gs gd_P0 d 58 2 L (i_psh (.int 0) 3 L st h) := go_eq gd_P0 d 58 2 L st h
theorem x58_3 (d : Nat) (L st : List Value) (h : gd_H) : go gd_P0 d 58 3 L st h = gs gd_P0 d 58 3 L (i_ald 0 4 L st h) := go_eq gd_P0 d 58 3 L st h
theorem x58_4 (d : Nat) (L st : List Value) (h : gd_H) : go gd_P0 d 58 4 L st h = gs gd_P0 d 58 4 L (i_getI 1 16 7 L st h) := go_eq gd_P0 d 58 4 L st h
theorem x58_7 (d : Nat) (L st : List Value) (h : gd_H) : go gd_P0 d 58 7 L st h = gs gd_P0 d 58 7 L (i_psh (.int 60) 9 L st h) := go_eq gd_P0 d 58 7 L st h
theorem x58_9 (d : Nat) (L st : List Value) (h : gd_H) : go gd_P0 d 58 9 L st h = gs gd_P0 d 58 9 L (i_mmin 12 L st h) := go_eq gd_P0 d 58 9 L st h
theorem x58_12 (d : Nat) (L st : List Value) (h : gd_H) : go gd_P0 d 58 12 L st h = gs gd_P0 d 58 12 L (i_msk [true, true, false, false, false, false, false, false, false] (i_cV 53 3 1 15) L st h) := go_eq gd_P0 d 58 12 L st h
theorem x58_15 (d : Nat) (L st : List Value) (h : gd_H) : go gd_P0 d 58 15 L st h = gs gd_P0 d 58 15 L (i_msk [true, true, false, false, false, false, false, false, false] (i_psh (.int 6) 17) L st h) := go_eq gd_P0 d 58 15 L st h
theorem x58_17 (d : Nat) (L st : List Value) (h : gd_H) : go gd_P0 d 58 17 L st h = gs gd_P0 d 58 17 L (i_newa 31 19 L st h) := go_eq gd_P0 d 58 17 L st h
theorem x58_19 (d : Nat) (L st : List Value) (h : gd_H) : go gd_P0 d 58 19 L st h = gs gd_P0 d 58 19 L (i_ast 2 20 L st h) := go_eq gd_P0 d 58 19 L st h
theorem x58_20 (d : Nat) (L st : List Value) (h : gd_H) : go gd_P0 d 58 20 L st h = gs gd_P0 d 58 20 L (i_psh (.int 6) 22 L st h) := go_eq gd_P0 d 58 20 L st h
theorem x58_22 (d : Nat) (L st : List Value) (h : gd_H) : go gd_P0 d 58 22 L st h = gs gd_P0 d 58 22 L (i_newa 31 24 L st h) := go_eq gd_P0 d 58 22 L st h
theorem x58_24 (d : Nat) (L st : List Value) (h : gd_H) : go gd_P0 d 58 24 L st h = gs gd_P0 d 58 24 L (i_ast 3 25 L st h) := go_eq gd_P0 d 58 24 L st h
theorem x58_25 (d : Nat) (L st : List Value) (h : gd_H) : go gd_P0 d 58 25 L st h = gs gd_P0 d 58 25 L (i_psh (.int 0) 26 L st h) := go_eq gd_P0 d 58 25 L st h
theorem x58_26 (d : Nat) (L st : List Value) (h : gd_H) : go gd_P0 d 58 26 L st h = gs gd_P0 d 58 26 L (i_ist 4 28 L st h) := go_eq gd_P0 d 58 26 L st h
theorem x58_28 (d : Nat) (L st : List Value) (h : gd_H) : go gd_P0 d 58 28 L st h = gs gd_P0 d 58 28 L (i_ald 0 29 L st h) := go_eq gd_P0 d 58 28 L st h
theorem x58_29 (d : Nat) (L st : List Value) (h : gd_H) : go gd_P0 d 58 29 L st h = gs gd_P0 d 58 29 L (i_ild 1 30 L st h) := go_eq gd_P0 d 58 29 L st h
theorem x58_30 (d : Nat) (L st : List Value) (h : gd_H) : go gd_P0 d 58 30 L st h = gs gd_P0 d 58 30 L (i_cV 54 1 1 33 L st h) := go_eq gd_P0 d 58 30 L st h
theorem x58_33 (d : Nat) (L st : List Value) (h : gd_H) : go gd_P0 d 58 33 L st h = gs gd_P0 d 58 33 L (i_msk [true, false, true, true, true, false, false, false, false] (i_ast 5 35) L st h) := go_eq gd_P0 d 58 33 L st h
theorem x58_35 (d : Nat) (L st : List Value) (h : gd_H) : go gd_P0 d 58 35 L st h = gs gd_P0 d 58 35 L (i_msk [true, false, true, true, true, true, false, false, false] (i_ald 5 37) L st h) := go_eq gd_P0 d 58 35 L st h
theorem x58_37 (d : Nat) (L st : List Value) (h : gd_H) : go gd_P0 d 58 37 L st h = gs gd_P0 d 58 37 L (i_cV 97 0 10 40 L st h) := go_eq gd_P0 d 58 37 L st h
theorem x58_40 (d : Nat) (L st : List Value) (h : gd_H) : go gd_P0 d 58 40 L st h = gs gd_P0 d 58 40 L (i_msk [true, false, true, true, true, true, false, false, false] (i_psh (.int (-1)) 41) L st h) := go_eq gd_P0 d 58 40 L st h
theorem x58_41 (d : Nat) (L st : List Value) (h : gd_H) : go gd_P0 d 58 41 L st h = gs gd_P0 d 58 41 L (i_iceq 147 44 L st h) := go_eq gd_P0 d 58 41 L st h
theorem x58_44 (d : Nat) (L st : List Value) (h : gd_H) : go gd_P0 d 58 44 L st h = gs gd_P0 d 58 44 L (i_ald 5 46 L st h) := go_eq gd_P0 d 58 44 L st h
theorem x58_46 (d : Nat) (L st : List Value) (h : gd_H) : go gd_P0 d 58 46 L st h = gs gd_P0 d 58 46 L (i_cV 99 0 10 49 L st h) := go_eq gd_P0 d 58 46 L st h
theorem x58_49 (d : Nat) (L st : List Value) (h : gd_H) : go gd_P0 d 58 49 L st h = gs gd_P0 d 58 49 L (i_msk [true, false, true, true, true, true, false, false, false] (i_ist 6 51) L st h) := go_eq gd_P0 d 58 49 L st h
theorem x58_51 (d : Nat) (L st : List Value) (h : gd_H) : go gd_P0 d 58 51 L st h = gs gd_P0 d 58 51 L (i_ald 5 53 L st h) := go_eq gd_P0 d 58 51 L st h
theorem x58_53 (d : Nat) (L st : List Value) (h : gd_H) : go gd_P0 d 58 53 L st h = gs gd_P0 d 58 53 L (i_psh (.int 1) 54 L st h) := go_eq gd_P0 d 58 53 L st h
theorem x58_54 (d : Nat) (L st : List Value) (h : gd_H) : go gd_P0 d 58 54 L st h = gs gd_P0 d 58 54 L (i_psh (.int 12) 56 L st h) := go_eq gd_P0 d 58 54 L st h
theorem x58_56 (d : Nat) (L st : List Value) (h : gd_H) : go gd_P0 d 58 56 L st h = gs gd_P0 d 58 56 L (i_cV 104 2 10 59 L st h) := go_eq gd_P0 d 58 56 L st h
theorem x58_59 (d : Nat) (L st : List Value) (h : gd_H) : go gd_P0 d 58 59 L st h = gs gd_P0 d 58 59 L (i_msk [true, false, true, true, true, true, true, false, false] (i_ist 7 61) L st h) := go_eq gd_P0 d 58 59 L st h
theorem x58_61 (d : Nat) (L st : List Value) (h : gd_H) : go gd_P0 d 58 61 L st h = gs gd_P0 d 58 61 L (i_psh (.int 0) 62 L st h) := go_eq gd_P0 d 58 61 L st h
theorem x58_62 (d : Nat) (L st : List Value) (h : gd_H) : go gd_P0 d 58 62 L st h = gs gd_P0 d 58 62 L (i_ist 8 64 L st h) := go_eq gd_P0 d 58 62 L st h
theorem x58_64 (d : Nat) (L st : List Value) (h : gd_H) : go gd_P0 d 58 64 L st h = gs gd_P0 d 58 64 L (i_msk [true, false, true, true, true, true, true, true, true] (i_ild 8 66) L st h) := go_eq gd_P0 d 58 64 L st h
theorem x58_66 (d : Nat) (L st : List Value) (h : gd_H) : go gd_P0 d 58 66 L st h = gs gd_P0 d 58 66 L (i_ild 4 68 L st h) := go_eq gd_P0 d 58 66 L st h
theorem x58_68 (d : Nat) (L st : List Value) (h : gd_H) : go gd_P0 d 58 68 L st h = gs gd_P0 d 58 68 L (i_icge 97 71 L st h) := go_eq gd_P0 d 58 68 L st h
theorem x58_71 (d : Nat) (L st : List Value) (h : gd_H) : go gd_P0 d 58 71 L st h = gs gd_P0 d 58 71 L (i_ald 2 72 L st h) := go_eq gd_P0 d 58 71 L st h
theorem x58_72 (d : Nat) (L st : List Value) (h : gd_H) : go gd_P0 d 58 72 L st h = gs gd_P0 d 58 72 L (i_ild 8 74 L st h) := go_eq gd_P0 d 58 72 L st h
theorem x58_74 (d : Nat) (L st : List Value) (h : gd_H) : go gd_P0 d 58 74 L st h = gs gd_P0 d 58 74 L (i_aldI 31 75 L st h) := go_eq gd_P0 d 58 74 L st h
theorem x58_75 (d : Nat) (L st : List Value) (h : gd_H) : go gd_P0 d 58 75 L st h = gs gd_P0 d 58 75 L (i_ild 7 77 L st h) := go_eq gd_P0 d 58 75 L st h
theorem x58_77 (d : Nat) (L st : List Value) (h : gd_H) : go gd_P0 d 58 77 L st h = gs gd_P0 d 58 77 L (i_icne 91 80 L st h) := go_eq gd_P0 d 58 77 L st h
theorem x58_80 (d : Nat) (L st : List Value) (h : gd_H) : go gd_P0 d 58 80 L st h = gs gd_P0 d 58 80 L (i_new 11 8 83 L st h) := go_eq gd_P0 d 58 80 L st h
theorem x58_83 (d : Nat) (L st : List Value) (h : gd_H) : go gd_P0 d 58 83 L st h = gs gd_P0 d 58 83 L (i_dup 84 L st h) := go_eq gd_P0 d 58 83 L st h
theorem x58_84 (d : Nat) (L st : List Value) (h : gd_H) : go gd_P0 d 58 84 L st h = gs gd_P0 d 58 84 L (i_psh (.int 2) 85 L st h) := go_eq gd_P0 d 58 84 L st h
theorem x58_85 (d : Nat) (L st : List Value) (h : gd_H) : go gd_P0 d 58 85 L st h = gs gd_P0 d 58 85 L (i_ild 6 87 L st h) := go_eq gd_P0 d 58 85 L st h
theorem x58_87 (d : Nat) (L st : List Value) (h : gd_H) : go gd_P0 d 58 87 L st h = gs gd_P0 d 58 87 L (i_cV 111 2 11 90 L st h) := go_eq gd_P0 d 58 87 L st h
theorem x58_90 (d : Nat) (L st : List Value) (h : gd_H) : go gd_P0 d 58 90 L st h = gs gd_P0 d 58 90 L (i_thr L st h) := go_eq gd_P0 d 58 90 L st h
theorem x58_91 (d : Nat) (L st : List Value) (h : gd_H) : go gd_P0 d 58 91 L st h = gs gd_P0 d 58 91 L (i_inc 8 1 94 L st h) := go_eq gd_P0 d 58 91 L st h
theorem x58_94 (d : Nat) (L st : List Value) (h : gd_H) : go gd_P0 d 58 94 L st h = gs gd_P0 d 58 94 L (i_goto 64 L st h) := go_eq gd_P0 d 58 94 L st h
theorem x58_97 (d : Nat) (L st : List Value) (h : gd_H) : go gd_P0 d 58 97 L st h = gs gd_P0 d 58 97 L (i_ild 4 99 L st h) := go_eq gd_P0 d 58 97 L st h
theorem x58_99 (d : Nat) (L st : List Value) (h : gd_H) : go gd_P0 d 58 99 L st h = gs gd_P0 d 58 99 L (i_psh (.int 6) 101 L st h) := go_eq gd_P0 d 58 99 L st h
theorem x58_101 (d : Nat) (L st : List Value) (h : gd_H) : go gd_P0 d 58 101 L st h = gs gd_P0 d 58 101 L (i_icne 115 104 L st h) := go_eq gd_P0 d 58 101 L st h
theorem x58_104 (d : Nat) (L st : List Value) (h : gd_H) : go gd_P0 d 58 104 L st h = gs gd_P0 d 58 104 L (i_new 11 8 107 L st h) := go_eq gd_P0 d 58 104 L st h
theorem x58_107 (d : Nat) (L st : List Value) (h : gd_H) : go gd_P0 d 58 107 L st h = gs gd_P0 d 58 107 L (i_dup 108 L st h) := go_eq gd_P0 d 58 107 L st h
theorem x58_108 (d : Nat) (L st : List Value) (h : gd_H) : go gd_P0 d 58 108 L st h = gs gd_P0 d 58 108 L (i_psh (.int 3) 109 L st h) := go_eq gd_P0 d 58 108 L st h
theorem x58_109 (d : Nat) (L st : List Value) (h : gd_H) : go gd_P0 d 58 109 L st h = gs gd_P0 d 58 109 L (i_ild 6 111 L st h) := go_eq gd_P0 d 58 109 L st h
theorem x58_111 (d : Nat) (L st : List Value) (h : gd_H) : go gd_P0 d 58 111 L st h = gs gd_P0 d 58 111 L (i_cV 111 2 11 114 L st h) := go_eq gd_P0 d 58 111 L st h
theorem x58_114 (d : Nat) (L st : List Value) (h : gd_H) : go gd_P0 d 58 114 L st h = gs gd_P0 d 58 114 L (i_thr L st h) := go_eq gd_P0 d 58 114 L st h
theorem x58_115 (d : Nat) (L st : List Value) (h : gd_H) : go gd_P0 d 58 115 L st h = gs gd_P0 d 58 115 L (i_ald 2 116 L st h) := go_eq gd_P0 d 58 115 L st h
theorem x58_116 (d : Nat) (L st : List Value) (h : gd_H) : go gd_P0 d 58 116 L st h = gs gd_P0 d 58 116 L (i_ild 4 118 L st h) := go_eq gd_P0 d 58 116 L st h
theorem x58_118 (d : Nat) (L st : List Value) (h : gd_H) : go gd_P0 d 58 118 L st h = gs gd_P0 d 58 118 L (i_ild 7 120 L st h) := go_eq gd_P0 d 58 118 L st h
theorem x58_120 (d : Nat) (L st : List Value) (h : gd_H) : go gd_P0 d 58 120 L st h = gs gd_P0 d 58 120 L (i_astI 121 L st h) := go_eq gd_P0 d 58 120 L st h
theorem x58_121 (d : Nat) (L st : List Value) (h : gd_H) : go gd_P0 d 58 121 L st h = gs gd_P0 d 58 121 L (i_ald 3 122 L st h) := go_eq gd_P0 d 58 121 L st h
theorem x58_122 (d : Nat) (L st : List Value) (h : gd_H) : go gd_P0 d 58 122 L st h = gs gd_P0 d 58 122 L (i_ild 4 124 L st h) := go_eq gd_P0 d 58 122 L st h
theorem x58_124 (d : Nat) (L st : List Value) (h : gd_H) : go gd_P0 d 58 124 L st h = gs gd_P0 d 58 124 L (i_ald 5 126 L st h) := go_eq gd_P0 d 58 124 L st h
theorem x58_126 (d : Nat) (L st : List Value) (h : gd_H) : go gd_P0 d 58 126 L st h = gs gd_P0 d 58 126 L (i_psh (.int 0) 127 L st h) := go_eq gd_P0 d 58 126 L st h
theorem x58_127 (d : Nat) (L st : List Value) (h : gd_H) : go gd_P0 d 58 127 L st h = gs gd_P0 d 58 127 L (i_psh (.int 999) 130 L st h) := go_eq gd_P0 d 58 127 L st h
theorem x58_130 (d : Nat) (L st : List Value) (h : gd_H) : go gd_P0 d 58 130 L st h = gs gd_P0 d 58 130 L (i_cV 104 2 10 133 L st h) := go_eq gd_P0 d 58 130 L st h
theorem x58_133 (d : Nat) (L st : List Value) (h : gd_H) : go gd_P0 d 58 133 L st h = gs gd_P0 d 58 133 L (i_msk [true, false, true, true, true, true, false, false, false] (i_astI 134) L st h) := go_eq gd_P0 d 58 133 L st h
theorem x58_134 (d : Nat) (L st : List Value) (h : gd_H) : go gd_P0 d 58 134 L st h = gs gd_P0 d 58 134 L (i_ald 5 136 L st h) := go_eq gd_P0 d 58 134 L st h
theorem x58_136 (d : Nat) (L st : List Value) (h : gd_H) : go gd_P0 d 58 136 L st h = gs gd_P0 d 58 136 L (i_psh (.int 59) 138 L st h) := go_eq gd_P0 d 58 136 L st h
theorem x58_138 (d : Nat) (L st : List Value) (h : gd_H) : go gd_P0 d 58 138 L st h = gs gd_P0 d 58 138 L (i_cV 106 1 10 141 L st h) := go_eq gd_P0 d 58 138 L st h
theorem x58_141 (d : Nat) (L st : List Value) (h : gd_H) : go gd_P0 d 58 141 L st h = gs gd_P0 d 58 141 L (i_msk [true, false, true, true, true, true, false, false, false] (i_inc 4 1 144) L st h) := go_eq gd_P0 d 58 141 L st h
theorem x58_144 (d : Nat) (L st : List Value) (h : gd_H) : go gd_P0 d 58 144 L st h = gs gd_P0 d 58 144 L (i_goto 35 L st h) := go_eq gd_P0 d 58 144 L st h
theorem x58_147 (d : Nat) (L st : List Value) (h : gd_H) : go gd_P0 d 58 147 L st h = gs gd_P0 d 58 147 L (i_goto 159 L st h) := go_eq gd_P0 d 58 147 L st h
theorem x58_150 (d : Nat) (L st : List Value) (h : gd_H) : go gd_P0 d 58 150 L st h = gs gd_P0 d 58 150 L (i_msk [true, false, false, false, false, false, false, false, false] (i_ast 5 152) L st h) := go_eq gd_P0 d 58 150 L st h
theorem x58_152 (d : Nat) (L st : List Value) (h : gd_H) : go gd_P0 d 58 152 L st h = gs gd_P0 d 58 152 L (i_ald 0 153 L st h) := go_eq gd_P0 d 58 152 L st h
theorem x58_153 (d : Nat) (L st : List Value) (h : gd_H) : go gd_P0 d 58 153 L st h = gs gd_P0 d 58 153 L (i_ald 5 155 L st h) := go_eq gd_P0 d 58 153 L st h
theorem x58_155 (d : Nat) (L st : List Value) (h : gd_H) : go gd_P0 d 58 155 L st h = gs gd_P0 d 58 155 L (i_cV 55 1 1 158 L st h) := go_eq gd_P0 d 58 155 L st h
theorem x58_158 (d : Nat) (L st : List Value) (h : gd_H) : go gd_P0 d 58 158 L st h = gs gd_P0 d 58 158 L (i_msk [false, false, false, false, false, false, false, false, false] (i_iret) L st h) := go_eq gd_P0 d 58 158 L st h
theorem x58_159 (d : Nat) (L st : List Value) (h : gd_H) : go gd_P0 d 58 159 L st h = gs gd_P0 d 58 159 L (i_ald 0 160 L st h) := go_eq gd_P0 d 58 159 L st h
theorem x58_160 (d : Nat) (L st : List Value) (h : gd_H) : go gd_P0 d 58 160 L st h = gs gd_P0 d 58 160 L (i_ild 4 162 L st h) := go_eq gd_P0 d 58 160 L st h
theorem x58_162 (d : Nat) (L st : List Value) (h : gd_H) : go gd_P0 d 58 162 L st h = gs gd_P0 d 58 162 L (i_putI 1 18 165 L st h) := go_eq gd_P0 d 58 162 L st h
theorem x58_165 (d : Nat) (L st : List Value) (h : gd_H) : go gd_P0 d 58 165 L st h = gs gd_P0 d 58 165 L (i_ald 2 166 L st h) := go_eq gd_P0 d 58 165 L st h
theorem x58_166 (d : Nat) (L st : List Value) (h : gd_H) : go gd_P0 d 58 166 L st h = gs gd_P0 d 58 166 L (i_psh (.int 0) 167 L st h) := go_eq gd_P0 d 58 166 L st h
theorem x58_167 (d : Nat) (L st : List Value) (h : gd_H) : go gd_P0 d 58 167 L st h = gs gd_P0 d 58 167 L (i_ald 0 168 L st h) := go_eq gd_P0 d 58 167 L st h
theorem x58_168 (d : Nat) (L st : List Value) (h : gd_H) : go gd_P0 d 58 168 L st h = gs gd_P0 d 58 168 L (i_getR 1 8 171 L st h) := go_eq gd_P0 d 58 168 L st h
theorem x58_171 (d : Nat) (L st : List Value) (h : gd_H) : go gd_P0 d 58 171 L st h = gs gd_P0 d 58 171 L (i_psh (.int 0) 172 L st h) := go_eq gd_P0 d 58 171 L st h
theorem x58_172 (d : Nat) (L st : List Value) (h : gd_H) : go gd_P0 d 58 172 L st h = gs gd_P0 d 58 172 L (i_psh (.int 6) 174 L st h) := go_eq gd_P0 d 58 172 L st h
theorem x58_174 (d : Nat) (L st : List Value) (h : gd_H) : go gd_P0 d 58 174 L st h = gs gd_P0 d 58 174 L (i_acp 177 L st h) := go_eq gd_P0 d 58 174 L st h
theorem x58_177 (d : Nat) (L st : List Value) (h : gd_H) : go gd_P0 d 58 177 L st h = gs gd_P0 d 58 177 L (i_msk [true, false, false, true, false, false, false, false, false] (i_ald 3 178) L st h) := go_eq gd_P0 d 58 177 L st h
theorem x58_178 (d : Nat) (L st : List Value) (h : gd_H) : go gd_P0 d 58 178 L st h = gs gd_P0 d 58 178 L (i_psh (.int 0) 179 L st h) := go_eq gd_P0 d 58 178 L st h
theorem x58_179 (d : Nat) (L st : List Value) (h : gd_H) : go gd_P0 d 58 179 L st h = gs gd_P0 d 58 179 L (i_ald 0 180 L st h) := go_eq gd_P0 d 58 179 L st h
theorem x58_180 (d : Nat) (L st : List Value) (h : gd_H) : go gd_P0 d 58 180 L st h = gs gd_P0 d 58 180 L (i_getR 1 9 183 L st h) := go_eq gd_P0 d 58 180 L st h
theorem x58_183 (d : Nat) (L st : List Value) (h : gd_H) : go gd_P0 d 58 183 L st h = gs gd_P0 d 58 183 L (i_psh (.int 0) 184 L st h) := go_eq gd_P0 d 58 183 L st h
theorem x58_184 (d : Nat) (L st : List Value) (h : gd_H) : go gd_P0 d 58 184 L st h = gs gd_P0 d 58 184 L (i_psh (.int 6) 186 L st h) := go_eq gd_P0 d 58 184 L st h
theorem x58_186 (d : Nat) (L st : List Value) (h : gd_H) : go gd_P0 d 58 186 L st h = gs gd_P0 d 58 186 L (i_acp 189 L st h) := go_eq gd_P0 d 58 186 L st h
theorem x58_189 (d : Nat) (L st : List Value) (h : gd_H) : go gd_P0 d 58 189 L st h = gs gd_P0 d 58 189 L (i_msk [true, false, false, false, false, false, false, false, false] (i_ald 0 190) L st h) := go_eq gd_P0 d 58 189 L st h
theorem x58_190 (d : Nat) (L st : List Value) (h : gd_H) : go gd_P0 d 58 190 L st h = gs gd_P0 d 58 190 L (i_getI 1 18 193 L st h) := go_eq gd_P0 d 58 190 L st h
theorem x58_193 (d : Nat) (L st : List Value) (h : gd_H) : go gd_P0 d 58 193 L st h = gs gd_P0 d 58 193 L (i_iret L st h) := go_eq gd_P0 d 58 193 L st h
theorem s58_0 (d : Nat) (h : gd_H) (v0 : Nat) (v1 : Int32) : go gd_P0 d 58 0 [.ref v0, .int v1, .null, .null, .null, .null, .null, .null, .null] [] h =
    if gT h v0 = 1 then go gd_P0 d 58 12 [.ref v0, .int v1, .null, .null, .null, .null, .null, .null, .null] [.int (if 60 < (gI h v0 16) then 60 else (gI h v0 16)), .int 0, .int v1, .ref v0] h else none :=
  (x58_0 ..).trans ((x58_1 ..).trans ((x58_2 ..).trans ((x58_3 ..).trans ((x58_4 ..).trans ((gs_if ..).trans (ic9 ((x58_7 ..).trans ((x58_9 ..))) rfl))))))
theorem s58_12 (d : Nat) (h : gd_H) (v0 : Nat) (v1 : Int32) (w2 : Value) (w3 : Value) (w4 : Value) (w5 : Value) (w6 : Value) (w7 : Value) (w8 : Value) (z0 : Int32) (z1 : Int32) (z2 : Int32) (z3 : Nat) : go gd_P0 d 58 12 [.ref v0, .int v1, w2, w3, w4, w5, w6, w7, w8] [.int z0, .int z1, .int z2, .ref z3] h =
    if gT h z3 = 1 then gc gd_P0 d 58 12 15 [.ref v0, .int v1, .null, .null, .null, .null, .null, .null, .null] [] (run gd_P0 d 53 [.ref z3, .int z2, .int z1, .int z0] h) else none :=
  (x58_12 ..).trans ((gs_nif ..).trans ((ia9 (by simp)).trans (ic9 rfl rfl)))
theorem s58_15 (d : Nat) (h : gd_H) (v0 : Nat) (v1 : Int32) (w2 : Value) (w3 : Value) (w4 : Value) (w5 : Value) (w6 : Value) (w7 : Value) (w8 : Value) : go gd_P0 d 58 15 [.ref v0, .int v1, w2, w3, w4, w5, w6, w7, w8] [] h =
    go gd_P0 d 58 19 [.ref v0, .int v1, .null, .null, .null, .null, .null, .null, .null] [.ref (gS h)] (nw h 31 (Int32.toNatClampNeg 6) (Int32.toNatClampNeg 6)) :=
  (x58_15 ..).trans ((x58_17 ..))
theorem s58_19 (d : Nat) (h : gd_H) (v0 : Nat) (v1 : Int32) (w2 : Value) (w3 : Value) (w4 : Value) (w5 : Value) (w6 : Value) (w7 : Value) (w8 : Value) (z0 : Nat) : go gd_P0 d 58 19 [.ref v0, .int v1, w2, w3, w4, w5, w6, w7, w8] [.ref z0] h =
    go gd_P0 d 58 24 [.ref v0, .int v1, .ref z0, w3, w4, w5, w6, w7, w8] [.ref (gS h)] (nw h 31 (Int32.toNatClampNeg 6) (Int32.toNatClampNeg 6)) :=
  (x58_19 ..).trans ((x58_20 ..).trans ((x58_22 ..)))
theorem s58_24 (d : Nat) (h : gd_H) (v0 : Nat) (v1 : Int32) (v2 : Nat) (w3 : Value) (w4 : Value) (w5 : Value) (w6 : Value) (w7 : Value) (w8 : Value) (z0 : Nat) : go gd_P0 d 58 24 [.ref v0, .int v1, .ref v2, w3, w4, w5, w6, w7, w8] [.ref z0] h =
    if gT h v0 = 1 then gc gd_P0 d 58 30 33 [.ref v0, .int v1, .ref v2, .ref z0, .int 0, w5, w6, w7, w8] [] (run gd_P0 d 54 [.ref v0, .int v1] h) else none :=
  (x58_24 ..).trans ((x58_25 ..).trans ((x58_26 ..).trans ((x58_28 ..).trans ((x58_29 ..).trans ((x58_30 ..).trans ((gs_if ..).trans ((ia9 (by simp)).trans (ic9 rfl rfl))))))))
theorem s58_33 (d : Nat) (h : gd_H) (v0 : Nat) (w1 : Value) (v2 : Nat) (v3 : Nat) (v4 : Int32) (w5 : Value) (w6 : Value) (w7 : Value) (w8 : Value) (z0 : Nat) : go gd_P0 d 58 33 [.ref v0, w1, .ref v2, .ref v3, .int v4, w5, w6, w7, w8] [.ref z0] h =
    go gd_P0 d 58 35 [.ref v0, .null, .ref v2, .ref v3, .int v4, .ref z0, .null, .null, .null] [] h :=
  (x58_33 ..)
theorem s58_35 (d : Nat) (h : gd_H) (v0 : Nat) (w1 : Value) (v2 : Nat) (v3 : Nat) (v4 : Int32) (v5 : Nat) (w6 : Value) (w7 : Value) (w8 : Value) : go gd_P0 d 58 35 [.ref v0, w1, .ref v2, .ref v3, .int v4, .ref v5, w6, w7, w8] [] h =
    if gT h v5 = 10 then gc gd_P0 d 58 37 40 [.ref v0, .null, .ref v2, .ref v3, .int v4, .ref v5, .null, .null, .null] [] (run gd_P0 d 97 [.ref v5] h) else none :=
  (x58_35 ..).trans ((x58_37 ..).trans ((gs_if ..).trans ((ia9 (by simp)).trans (ic9 rfl rfl))))
theorem s58_40 (d : Nat) (h : gd_H) (v0 : Nat) (w1 : Value) (v2 : Nat) (v3 : Nat) (v4 : Int32) (v5 : Nat) (w6 : Value) (w7 : Value) (w8 : Value) (z0 : Int32) : go gd_P0 d 58 40 [.ref v0, w1, .ref v2, .ref v3, .int v4, .ref v5, w6, w7, w8] [.int z0] h =
    if z0 = (-1) then if gT h v0 = 1 then if gT h v0 = 1 then if (gT h v2 = 31 ∧ gT h (gR h v0 8) = 31) ∧ ((¬ (0 : Int32) < 0 ∧ ¬ (0 : Int32) < 0) ∧ (¬ (6 : Int32) < 0 ∧ (Int32.toNatClampNeg 0 + Int32.toNatClampNeg 6 ≤ gL h v2 ∧ Int32.toNatClampNeg 0 + Int32.toNatClampNeg 6 ≤ gL h (gR h v0 8)))) then go gd_P0 d 58 177 [.ref v0, .null, .ref v2, .ref v3, .int v4, .ref v5, .null, .null, .null] [] (wI h (cpy (up1 (gI h) v0 18 v4) v2 (Int32.toNatClampNeg 0) (gR h v0 8) (Int32.toNatClampNeg 0) (Int32.toNatClampNeg 6))) else none else none else none else if gT h v5 = 10 then gc gd_P0 d 58 46 49 [.ref v0, .null, .ref v2, .ref v3, .int v4, .ref v5, .null, .null, .null] [] (run gd_P0 d 99 [.ref v5] h) else none :=
  (x58_40 ..).trans ((x58_41 ..).trans ((gs_if ..).trans (ic9 ((x58_147 ..).trans ((x58_159 ..).trans ((x58_160 ..).trans ((x58_162 ..).trans ((gs_if ..).trans (ic9 ((x58_165 ..).trans ((x58_166 ..).trans ((x58_167 ..).trans ((x58_168 ..).trans ((gs_if ..).trans (ic9 ((x58_171 ..).trans ((x58_172 ..).trans ((x58_174 ..).trans ((gs_if ..).trans (ic9 (rfl) rfl))))) rfl)))))) rfl)))))) ((x58_44 ..).trans ((x58_46 ..).trans ((gs_if ..).trans ((ia9 (by simp)).trans (ic9 rfl rfl))))))))
theorem s58_49 (d : Nat) (h : gd_H) (v0 : Nat) (w1 : Value) (v2 : Nat) (v3 : Nat) (v4 : Int32) (v5 : Nat) (w6 : Value) (w7 : Value) (w8 : Value) (z0 : Int32) : go gd_P0 d 58 49 [.ref v0, w1, .ref v2, .ref v3, .int v4, .ref v5, w6, w7, w8] [.int z0] h =
    if gT h v5 = 10 then gc gd_P0 d 58 56 59 [.ref v0, .null, .ref v2, .ref v3, .int v4, .ref v5, .int z0, .null, .null] [] (run gd_P0 d 104 [.ref v5, .int 1, .int 12] h) else none :=
  (x58_49 ..).trans ((x58_51 ..).trans ((x58_53 ..).trans ((x58_54 ..).trans ((x58_56 ..).trans ((gs_if ..).trans ((ia9 (by simp)).trans (ic9 rfl rfl)))))))
theorem s58_59 (d : Nat) (h : gd_H) (v0 : Nat) (w1 : Value) (v2 : Nat) (v3 : Nat) (v4 : Int32) (v5 : Nat) (v6 : Int32) (w7 : Value) (w8 : Value) (z0 : Int32) : go gd_P0 d 58 59 [.ref v0, w1, .ref v2, .ref v3, .int v4, .ref v5, .int v6, w7, w8] [.int z0] h =
    go gd_P0 d 58 64 [.ref v0, .null, .ref v2, .ref v3, .int v4, .ref v5, .int v6, .int z0, .int 0] [] h :=
  (x58_59 ..).trans ((x58_61 ..).trans ((x58_62 ..)))
theorem s58_64 (d : Nat) (h : gd_H) (v0 : Nat) (w1 : Value) (v2 : Nat) (v3 : Nat) (v4 : Int32) (v5 : Nat) (v6 : Int32) (v7 : Int32) (v8 : Int32) : go gd_P0 d 58 64 [.ref v0, w1, .ref v2, .ref v3, .int v4, .ref v5, .int v6, .int v7, .int v8] [] h =
    if v4 ≤ v8 then if v4 = 6 then go gd_P0 d 58 107 [.ref v0, .null, .ref v2, .ref v3, .int v4, .ref v5, .int v6, .int v7, .int v8] [.ref (gS h)] (nw h 11 0 8) else if gT h v2 = 31 ∧ ¬ (v4 < 0 ∨ gL h v2 ≤ Int32.toNatClampNeg v4) then if gT h v5 = 10 then gc gd_P0 d 58 130 133 [.ref v0, .null, .ref v2, .ref v3, .int v4, .ref v5, .int v6, .int v7, .int v8] [.int v4, .ref v3] (run gd_P0 d 104 [.ref v5, .int 0, .int 999] (wI h (up1 (gI h) v2 (Int32.toNatClampNeg v4) v7))) else none else none else if gT h v2 = 31 ∧ ¬ (v8 < 0 ∨ gL h v2 ≤ Int32.toNatClampNeg v8) then if (gI h v2 (Int32.toNatClampNeg v8)) = v7 then go gd_P0 d 58 83 [.ref v0, .null, .ref v2, .ref v3, .int v4, .ref v5, .int v6, .int v7, .int v8] [.ref (gS h)] (nw h 11 0 8) else go gd_P0 d 58 64 [.ref v0, .null, .ref v2, .ref v3, .int v4, .ref v5, .int v6, .int v7, .int (v8 + 1)] [] h else none :=
  (x58_64 ..).trans ((x58_66 ..).trans ((x58_68 ..).trans ((gs_if ..).trans (ic9 ((x58_97 ..).trans ((x58_99 ..).trans ((x58_101 ..).trans ((gs_if ..).trans (ic9 ((x58_104 ..)) ((x58_115 ..).trans ((x58_116 ..).trans ((x58_118 ..).trans ((x58_120 ..).trans ((gs_if ..).trans (ic9 ((x58_121 ..).trans ((x58_122 ..).trans ((x58_124 ..).trans ((x58_126 ..).trans ((x58_127 ..).trans ((x58_130 ..).trans ((gs_if ..).trans ((ia9 (by simp)).trans (ic9 rfl rfl))))))))) rfl))))))))))) ((x58_71 ..).trans ((x58_72 ..).trans ((x58_74 ..).trans ((gs_if ..).trans (ic9 ((x58_75 ..).trans ((x58_77 ..).trans ((gs_if ..).trans (ic9 ((x58_80 ..)) ((x58_91 ..).trans ((x58_94 ..))))))) rfl)))))))))
theorem s58_83 (d : Nat) (h : gd_H) (v0 : Nat) (w1 : Value) (w2 : Value) (w3 : Value) (w4 : Value) (w5 : Value) (v6 : Int32) (w7 : Value) (w8 : Value) (z0 : Nat) : go gd_P0 d 58 83 [.ref v0, w1, w2, w3, w4, w5, .int v6, w7, w8] [.ref z0] h =
    if gT h z0 = 11 then gc gd_P0 d 58 87 90 [.ref v0, w1, w2, w3, w4, w5, .int v6, w7, w8] [.ref z0] (run gd_P0 d 111 [.ref z0, .int 2, .int v6] h) else none :=
  (x58_83 ..).trans ((x58_84 ..).trans ((x58_85 ..).trans ((x58_87 ..).trans ((gs_if ..).trans ((ia9 (by simp)).trans (ic9 rfl rfl))))))
theorem s58_90 (d : Nat) (h : gd_H) (v0 : Nat) (w1 : Value) (w2 : Value) (w3 : Value) (w4 : Value) (w5 : Value) (w6 : Value) (w7 : Value) (w8 : Value) (z0 : Nat) : go gd_P0 d 58 90 [.ref v0, w1, w2, w3, w4, w5, w6, w7, w8] [.ref z0] h =
    if 4 ≤ z0 then gx gd_P0 d 58 90 [.ref v0, w1, w2, w3, w4, w5, w6, w7, w8] z0 h else none :=
  (x58_90 ..).trans ((gs_if ..).trans (ic9 rfl rfl))
theorem s58_107 (d : Nat) (h : gd_H) (v0 : Nat) (w1 : Value) (w2 : Value) (w3 : Value) (w4 : Value) (w5 : Value) (v6 : Int32) (w7 : Value) (w8 : Value) (z0 : Nat) : go gd_P0 d 58 107 [.ref v0, w1, w2, w3, w4, w5, .int v6, w7, w8] [.ref z0] h =
    if gT h z0 = 11 then gc gd_P0 d 58 111 114 [.ref v0, w1, w2, w3, w4, w5, .int v6, w7, w8] [.ref z0] (run gd_P0 d 111 [.ref z0, .int 3, .int v6] h) else none :=
  (x58_107 ..).trans ((x58_108 ..).trans ((x58_109 ..).trans ((x58_111 ..).trans ((gs_if ..).trans ((ia9 (by simp)).trans (ic9 rfl rfl))))))
theorem s58_114 (d : Nat) (h : gd_H) (v0 : Nat) (w1 : Value) (w2 : Value) (w3 : Value) (w4 : Value) (w5 : Value) (w6 : Value) (w7 : Value) (w8 : Value) (z0 : Nat) : go gd_P0 d 58 114 [.ref v0, w1, w2, w3, w4, w5, w6, w7, w8] [.ref z0] h =
    if 4 ≤ z0 then gx gd_P0 d 58 114 [.ref v0, w1, w2, w3, w4, w5, w6, w7, w8] z0 h else none :=
  (x58_114 ..).trans ((gs_if ..).trans (ic9 rfl rfl))
theorem s58_133 (d : Nat) (h : gd_H) (v0 : Nat) (w1 : Value) (v2 : Nat) (v3 : Nat) (v4 : Int32) (v5 : Nat) (w6 : Value) (w7 : Value) (w8 : Value) (z0 : Int32) (z1 : Int32) (z2 : Nat) : go gd_P0 d 58 133 [.ref v0, w1, .ref v2, .ref v3, .int v4, .ref v5, w6, w7, w8] [.int z0, .int z1, .ref z2] h =
    if gT h z2 = 31 ∧ ¬ (z1 < 0 ∨ gL h z2 ≤ Int32.toNatClampNeg z1) then if gT h v5 = 10 then gc gd_P0 d 58 138 141 [.ref v0, .null, .ref v2, .ref v3, .int v4, .ref v5, .null, .null, .null] [] (run gd_P0 d 106 [.ref v5, .int 59] (wI h (up1 (gI h) z2 (Int32.toNatClampNeg z1) z0))) else none else none :=
  (x58_133 ..).trans ((gs_nif ..).trans (ic9 ((x58_134 ..).trans ((x58_136 ..).trans ((x58_138 ..).trans ((gs_if ..).trans ((ia9 (by simp)).trans (ic9 rfl rfl)))))) rfl))
theorem s58_141 (d : Nat) (h : gd_H) (v0 : Nat) (w1 : Value) (v2 : Nat) (v3 : Nat) (v4 : Int32) (v5 : Nat) (w6 : Value) (w7 : Value) (w8 : Value) : go gd_P0 d 58 141 [.ref v0, w1, .ref v2, .ref v3, .int v4, .ref v5, w6, w7, w8] [] h =
    go gd_P0 d 58 35 [.ref v0, .null, .ref v2, .ref v3, .int (v4 + 1), .ref v5, .null, .null, .null] [] h :=
  (x58_141 ..).trans ((x58_144 ..))
theorem s58_150 (d : Nat) (h : gd_H) (v0 : Nat) (w1 : Value) (w2 : Value) (w3 : Value) (w4 : Value) (w5 : Value) (w6 : Value) (w7 : Value) (w8 : Value) (z0 : Nat) : go gd_P0 d 58 150 [.ref v0, w1, w2, w3, w4, w5, w6, w7, w8] [.ref z0] h =
    if gT h v0 = 1 then gc gd_P0 d 58 155 158 [.ref v0, .null, .null, .null, .null, .ref z0, .null, .null, .null] [] (run gd_P0 d 55 [.ref v0, .ref z0] h) else none :=
  (x58_150 ..).trans ((x58_152 ..).trans ((x58_153 ..).trans ((x58_155 ..).trans ((gs_if ..).trans ((ia9 (by simp)).trans (ic9 rfl rfl))))))
theorem s58_158 (d : Nat) (h : gd_H) (w0 : Value) (w1 : Value) (w2 : Value) (w3 : Value) (w4 : Value) (w5 : Value) (w6 : Value) (w7 : Value) (w8 : Value) (z0 : Int32) : go gd_P0 d 58 158 [w0, w1, w2, w3, w4, w5, w6, w7, w8] [.int z0] h =
    some (.inl (some (.int z0)), h) :=
  (x58_158 ..)
theorem s58_177 (d : Nat) (h : gd_H) (v0 : Nat) (w1 : Value) (w2 : Value) (v3 : Nat) (w4 : Value) (w5 : Value) (w6 : Value) (w7 : Value) (w8 : Value) : go gd_P0 d 58 177 [.ref v0, w1, w2, .ref v3, w4, w5, w6, w7, w8] [] h =
    if gT h v0 = 1 then if (gT h v3 = 31 ∧ gT h (gR h v0 9) = 31) ∧ ((¬ (0 : Int32) < 0 ∧ ¬ (0 : Int32) < 0) ∧ (¬ (6 : Int32) < 0 ∧ (Int32.toNatClampNeg 0 + Int32.toNatClampNeg 6 ≤ gL h v3 ∧ Int32.toNatClampNeg 0 + Int32.toNatClampNeg 6 ≤ gL h (gR h v0 9)))) then go gd_P0 d 58 189 [.ref v0, .null, .null, .ref v3, .null, .null, .null, .null, .null] [] (wI h (cpy (gI h) v3 (Int32.toNatClampNeg 0) (gR h v0 9) (Int32.toNatClampNeg 0) (Int32.toNatClampNeg 6))) else none else none :=
  (x58_177 ..).trans ((x58_178 ..).trans ((x58_179 ..).trans ((x58_180 ..).trans ((gs_if ..).trans (ic9 ((x58_183 ..).trans ((x58_184 ..).trans ((x58_186 ..).trans ((gs_if ..).trans (ic9 (rfl) rfl))))) rfl)))))
theorem s58_189 (d : Nat) (h : gd_H) (v0 : Nat) (w1 : Value) (w2 : Value) (w3 : Value) (w4 : Value) (w5 : Value) (w6 : Value) (w7 : Value) (w8 : Value) : go gd_P0 d 58 189 [.ref v0, w1, w2, w3, w4, w5, w6, w7, w8] [] h =
    if gT h v0 = 1 then some (.inl (some (.int (gI h v0 18))), h) else none :=
  (x58_189 ..).trans ((x58_190 ..).trans ((gs_if ..).trans (ic9 ((x58_193 ..)) rfl)))
theorem r58 (d : Nat) (h : gd_H) (v0 : Nat) (v1 : Int32) : run gd_P0 (d + 1) 58 [.ref v0, .int v1] h = go gd_P0 d 58 0 [.ref v0, .int v1, .null, .null, .null, .null, .null, .null, .null] [] h := run_succ gd_P0 d 58 [.ref v0, .int v1] h (Nat.le_of_ble_eq_true rfl)
theorem x59_0 (d : Nat) (L st : List Value) (h : gd_H) : go gd_P0 d 59 0 L st h = gs gd_P0 d 59 0 L (i_ald 0 1 L st h) := go_eq gd_P0 d 59 0 L st h
theorem x59_1 (d : Nat) (L st : List Value) (h : gd_H) : go gd_P0 d 59 1 L st h = gs gd_P0 d 59 1 L (i_ild 1 2 L st h) := go_eq gd_P0 d 59 1 L st h
theorem x59_2 (d : Nat) (L st : List Value) (h : gd_H) : go gd_P0 d 59 2 L st h = gs gd_P0 d 59 2 L (i_psh (.int 0) 3 L st h) := go_eq gd_P0 d 59 2 L st h
theorem x59_3 (d : Nat) (L st : List Value) (h : gd_H) : go gd_P0 d 59 3 L st h = gs gd_P0 d 59 3 L (i_psh (.int 11) 5 L st h) := go_eq gd_P0 d 59 3 L st h
theorem x59_5 (d : Nat) (L st : List Value) (h : gd_H) : go gd_P0 d 59 5 L st h = gs gd_P0 d 59 5 L (i_cV 53 3 1 8 L st h) := go_eq gd_P0 d 59 5 L st h
theorem x59_8 (d : Nat) (L st : List Value) (h : gd_H) : go gd_P0 d 59 8 L st h = gs gd_P0 d 59 8 L (i_msk [true, true, false, false, false] (i_ald 0 9) L st h) := go_eq gd_P0 d 59 8 L st h
theorem x59_9 (d : Nat) (L st : List Value) (h : gd_H) : go gd_P0 d 59 9 L st h = gs gd_P0 d 59 9 L (i_getR 1 2 12 L st h) := go_eq gd_P0 d 59 9 L st h
theorem x59_12 (d : Nat) (L st : List Value) (h : gd_H) : go gd_P0 d 59 12 L st h = gs gd_P0 d 59 12 L (i_cV 145 0 3 15 L st h) := go_eq gd_P0 d 59 12 L st h
theorem x59_15 (d : Nat) (L st : List Value) (h : gd_H) : go gd_P0 d 59 15 L st h = gs gd_P0 d 59 15 L (i_msk [true, true, false, false, false] (i_ast 2 16) L st h) := go_eq gd_P0 d 59 15 L st h
theorem x59_16 (d : Nat) (L st : List Value) (h : gd_H) : go gd_P0 d 59 16 L st h = gs gd_P0 d 59 16 L (i_ild 1 17 L st h) := go_eq gd_P0 d 59 16 L st h
theorem x59_17 (d : Nat) (L st : List Value) (h : gd_H) : go gd_P0 d 59 17 L st h = gs gd_P0 d 59 17 L (i_sw [(0, 76), (1, 84), (2, 92), (3, 97), (4, 102), (5, 107), (6, 112), (7, 155), (8, 160), (9, 165), (10, 170)] 175 L st h) := go_eq gd_P0 d 59 17 L st h
theorem x59_76 (d : Nat) (L st : List Value) (h : gd_H) : go gd_P0 d 59 76 L st h = gs gd_P0 d 59 76 L (i_ald 0 77 L st h) := go_eq gd_P0 d 59 76 L st h
theorem x59_77 (d : Nat) (L st : List Value) (h : gd_H) : go gd_P0 d 59 77 L st h = gs gd_P0 d 59 77 L (i_getR 1 15 80 L st h) := go_eq gd_P0 d 59 77 L st h
theorem x59_80 (d : Nat) (L st : List Value) (h : gd_H) : go gd_P0 d 59 80 L st h = gs gd_P0 d 59 80 L (i_getI 6 6 83 L st h) := go_eq gd_P0 d 59 80 L st h
theorem x59_83 (d : Nat) (L st : List Value) (h : gd_H) : go gd_P0 d 59 83 L st h = gs gd_P0 d 59 83 L (i_iret L st h) := go_eq gd_P0 d 59 83 L st h
theorem x59_84 (d : Nat) (L st : List Value) (h : gd_H) : go gd_P0 d 59 84 L st h = gs gd_P0 d 59 84 L (i_ald 0 85 L st h) := go_eq gd_P0 d 59 84 L st h
theorem x59_85 (d : Nat) (L st : List Value) (h : gd_H) : go gd_P0 d 59 85 L st h = gs gd_P0 d 59 85 L (i_getR 1 15 88 L st h) := go_eq gd_P0 d 59 85 L st h
theorem x59_88 (d : Nat) (L st : List Value) (h : gd_H) : go gd_P0 d 59 88 L st h = gs gd_P0 d 59 88 L (i_getI 6 7 91 L st h) := go_eq gd_P0 d 59 88 L st h
theorem x59_91 (d : Nat) (L st : List Value) (h : gd_H) : go gd_P0 d 59 91 L st h = gs gd_P0 d 59 91 L (i_iret L st h) := go_eq gd_P0 d 59 91 L st h
theorem x59_92 (d : Nat) (L st : List Value) (h : gd_H) : go gd_P0 d 59 92 L st h = gs gd_P0 d 59 92 L (i_ald 2 93 L st h) := go_eq gd_P0 d 59 92 L st h
theorem x59_93 (d : Nat) (L st : List Value) (h : gd_H) : go gd_P0 d 59 93 L st h = gs gd_P0 d 59 93 L (i_getI 4 10 96 L st h) := go_eq gd_P0 d 59 93 L st h
theorem x59_96 (d : Nat) (L st : List Value) (h : gd_H) : go gd_P0 d 59 96 L st h = gs gd_P0 d 59 96 L (i_iret L st h) := go_eq gd_P0 d 59 96 L st h
theorem x59_97 (d : Nat) (L st : List Value) (h : gd_H) : go gd_P0 d 59 97 L st h = gs gd_P0 d 59 97 L (i_ald 2 98 L st h) := go_eq gd_P0 d 59 97 L st h
theorem x59_98 (d : Nat) (L st : List Value) (h : gd_H) : go gd_P0 d 59 98 L st h = gs gd_P0 d 59 98 L (i_cV 158 0 4 101 L st h) := go_eq gd_P0 d 59 98 L st h
theorem x59_101 (d : Nat) (L st : List Value) (h : gd_H) : go gd_P0 d 59 101 L st h = gs gd_P0 d 59 101 L (i_msk [false, false, false, false, false] (i_iret) L st h) := go_eq gd_P0 d 59 101 L st h
theorem x59_102 (d : Nat) (L st : List Value) (h : gd_H) : go gd_P0 d 59 102 L st h = gs gd_P0 d 59 102 L (i_ald 2 103 L st h) := go_eq gd_P0 d 59 102 L st h
theorem x59_103 (d : Nat) (L st : List Value) (h : gd_H) : go gd_P0 d 59 103 L st h = gs gd_P0 d 59 103 L (i_getI 4 11 106 L st h) := go_eq gd_P0 d 59 103 L st h
theorem x59_106 (d : Nat) (L st : List Value) (h : gd_H) : go gd_P0 d 59 106 L st h = gs gd_P0 d 59 106 L (i_iret L st h) := go_eq gd_P0 d 59 106 L st h
theorem x59_107 (d : Nat) (L st : List Value) (h : gd_H) : go gd_P0 d 59 107 L st h = gs gd_P0 d 59 107 L (i_ald 2 108 L st h) := go_eq gd_P0 d 59 107 L st h
theorem x59_108 (d : Nat) (L st : List Value) (h : gd_H) : go gd_P0 d 59 108 L st h = gs gd_P0 d 59 108 L (i_cV 149 0 4 111 L st h) := go_eq gd_P0 d 59 108 L st h
theorem x59_111 (d : Nat) (L st : List Value) (h : gd_H) : go gd_P0 d 59 111 L st h = gs gd_P0 d 59 111 L (i_msk [false, false, false, false, false] (i_iret) L st h) := go_eq gd_P0 d 59 111 L st h
theorem x59_112 (d : Nat) (L st : List Value) (h : gd_H) : go gd_P0 d 59 112 L st h = gs gd_P0 d 59 112 L (i_psh (.int 0) 113 L st h) := go_eq gd_P0 d 59 112 L st h
theorem x59_113 (d : Nat) (L st : List Value) (h : gd_H) : go gd_P0 d 59 113 L st h = gs gd_P0 d 59 113 L (i_ist 3 114 L st h) := go_eq gd_P0 d 59 113 L st h
theorem x59_114 (d : Nat) (L st : List Value) (h : gd_H) : go gd_P0 d 59 114 L st h = gs gd_P0 d 59 114 L (i_psh (.int 0) 115 L st h) := go_eq gd_P0 d 59 114 L st h
theorem x59_115 (d : Nat) (L st : List Value) (h : gd_H) : go gd_P0 d 59 115 L st h = gs gd_P0 d 59 115 L (i_ist 4 117 L st h) := go_eq gd_P0 d 59 115 L st h
theorem x59_117 (d : Nat) (L st : List Value) (h : gd_H) : go gd_P0 d 59 117 L st h = gs gd_P0 d 59 117 L (i_msk [true, false, true, true, true] (i_ild 4 119) L st h) := go_eq gd_P0 d 59 117 L st h
theorem x59_119 (d : Nat) (L st : List Value) (h : gd_H) : go gd_P0 d 59 119 L st h = gs gd_P0 d 59 119 L (i_ald 0 120 L st h) := go_eq gd_P0 d 59 119 L st h
theorem x59_120 (d : Nat) (L st : List Value) (h : gd_H) : go gd_P0 d 59 120 L st h = gs gd_P0 d 59 120 L (i_getR 1 15 123 L st h) := go_eq gd_P0 d 59 120 L st h
theorem x59_123 (d : Nat) (L st : List Value) (h : gd_H) : go gd_P0 d 59 123 L st h = gs gd_P0 d 59 123 L (i_getI 6 7 126 L st h) := go_eq gd_P0 d 59 123 L st h
theorem x59_126 (d : Nat) (L st : List Value) (h : gd_H) : go gd_P0 d 59 126 L st h = gs gd_P0 d 59 126 L (i_icge 153 129 L st h) := go_eq gd_P0 d 59 126 L st h
theorem x59_129 (d : Nat) (L st : List Value) (h : gd_H) : go gd_P0 d 59 129 L st h = gs gd_P0 d 59 129 L (i_ald 2 130 L st h) := go_eq gd_P0 d 59 129 L st h
theorem x59_130 (d : Nat) (L st : List Value) (h : gd_H) : go gd_P0 d 59 130 L st h = gs gd_P0 d 59 130 L (i_getR 4 3 133 L st h) := go_eq gd_P0 d 59 130 L st h
theorem x59_133 (d : Nat) (L st : List Value) (h : gd_H) : go gd_P0 d 59 133 L st h = gs gd_P0 d 59 133 L (i_ild 4 135 L st h) := go_eq gd_P0 d 59 133 L st h
theorem x59_135 (d : Nat) (L st : List Value) (h : gd_H) : go gd_P0 d 59 135 L st h = gs gd_P0 d 59 135 L (i_aldI 31 136 L st h) := go_eq gd_P0 d 59 135 L st h
theorem x59_136 (d : Nat) (L st : List Value) (h : gd_H) : go gd_P0 d 59 136 L st h = gs gd_P0 d 59 136 L (i_psh (.int (-1)) 137 L st h) := go_eq gd_P0 d 59 136 L st h
theorem x59_137 (d : Nat) (L st : List Value) (h : gd_H) : go gd_P0 d 59 137 L st h = gs gd_P0 d 59 137 L (i_iceq 147 140 L st h) := go_eq gd_P0 d 59 137 L st h
theorem x59_140 (d : Nat) (L st : List Value) (h : gd_H) : go gd_P0 d 59 140 L st h = gs gd_P0 d 59 140 L (i_ild 3 141 L st h) := go_eq gd_P0 d 59 140 L st h
theorem x59_141 (d : Nat) (L st : List Value) (h : gd_H) : go gd_P0 d 59 141 L st h = gs gd_P0 d 59 141 L (i_psh (.int 1) 142 L st h) := go_eq gd_P0 d 59 141 L st h
theorem x59_142 (d : Nat) (L st : List Value) (h : gd_H) : go gd_P0 d 59 142 L st h = gs gd_P0 d 59 142 L (i_ild 4 144 L st h) := go_eq gd_P0 d 59 142 L st h
theorem x59_144 (d : Nat) (L st : List Value) (h : gd_H) : go gd_P0 d 59 144 L st h = gs gd_P0 d 59 144 L (i_ishl 145 L st h) := go_eq gd_P0 d 59 144 L st h
theorem x59_145 (d : Nat) (L st : List Value) (h : gd_H) : go gd_P0 d 59 145 L st h = gs gd_P0 d 59 145 L (i_ior 146 L st h) := go_eq gd_P0 d 59 145 L st h
theorem x59_146 (d : Nat) (L st : List Value) (h : gd_H) : go gd_P0 d 59 146 L st h = gs gd_P0 d 59 146 L (i_ist 3 147 L st h) := go_eq gd_P0 d 59 146 L st h
theorem x59_147 (d : Nat) (L st : List Value) (h : gd_H) : go gd_P0 d 59 147 L st h = gs gd_P0 d 59 147 L (i_msk [true, false, true, true, true] (i_inc 4 1 150) L st h) := go_eq gd_P0 d 59 147 L st h
theorem x59_150 (d : Nat) (L st : List Value) (h : gd_H) : go gd_P0 d 59 150 L st h = gs gd_P0 d 59 150 L (i_goto 117 L st h) := go_eq gd_P0 d 59 150 L st h
theorem x59_153 (d : Nat) (L st : List Value) (h : gd_H) : go gd_P0 d 59 153 L st h = gs gd_P0 d 59 153 L (i_ild 3 154 L st h) := go_eq gd_P0 d 59 153 L st h
theorem x59_154 (d : Nat) (L st : List Value) (h : gd_H) : go gd_P0 d 59 154 L st h = gs gd_P0 d 59 154 L (i_iret L st h) := go_eq gd_P0 d 59 154 L st h
theorem x59_155 (d : Nat) (L st : List Value) (h : gd_H) : go gd_P0 d 59 155 L st h = gs gd_P0 d 59 155 L (i_ald 2 156 L st h) := go_eq gd_P0 d 59 155 L st h
theorem x59_156 (d : Nat) (L st : List Value) (h : gd_H) : go gd_P0 d 59 156 L st h = gs gd_P0 d 59 156 L (i_cV 167 0 4 159 L st h) := go_eq gd_P0 d 59 156 L st h
theorem x59_159 (d : Nat) (L st : List Value) (h : gd_H) : go gd_P0 d 59 159 L st h = gs gd_P0 d 59 159 L (i_msk [false, false, false, false, false] (i_iret) L st h) := go_eq gd_P0 d 59 159 L st h
theorem x59_160 (d : Nat) (L st : List Value) (h : gd_H) : go gd_P0 d 59 160 L st h = gs gd_P0 d 59 160 L (i_ald 2 161 L st h) := go_eq gd_P0 d 59 160 L st h
theorem x59_161 (d : Nat) (L st : List Value) (h : gd_H) : go gd_P0 d 59 161 L st h = gs gd_P0 d 59 161 L (i_cV 154 0 4 164 L st h) := go_eq gd_P0 d 59 161 L st h
theorem x59_164 (d : Nat) (L st : List Value) (h : gd_H) : go gd_P0 d 59 164 L st h = gs gd_P0 d 59 164 L (i_msk [false, false, false, false, false] (i_iret) L st h) := go_eq gd_P0 d 59 164 L st h
theorem x59_165 (d : Nat) (L st : List Value) (h : gd_H) : go gd_P0 d 59 165 L st h = gs gd_P0 d 59 165 L (i_ald 0 166 L st h) := go_eq gd_P0 d 59 165 L st h
theorem x59_166 (d : Nat) (L st : List Value) (h : gd_H) : go gd_P0 d 59 166 L st h = gs gd_P0 d 59 166 L (i_getI 1 18 169 L st h) := go_eq gd_P0 d 59 166 L st h
theorem x59_169 (d : Nat) (L st : List Value) (h : gd_H) : go gd_P0 d 59 169 L st h = gs gd_P0 d 59 169 L (i_iret L st h) := go_eq gd_P0 d 59 169 L st h
theorem x59_170 (d : Nat) (L st : List Value) (h : gd_H) : go gd_P0 d 59 170 L st h = gs gd_P0 d 59 170 L (i_ald 0 171 L st h) := go_eq gd_P0 d 59 170 L st h
theorem x59_171 (d : Nat) (L st : List Value) (h : gd_H) : go gd_P0 d 59 171 L st h = gs gd_P0 d 59 171 L (i_getI 1 19 174 L st h) := go_eq gd_P0 d 59 171 L st h
theorem x59_174 (d : Nat) (L st : List Value) (h : gd_H) : go gd_P0 d 59 174 L st h = gs gd_P0 d 59 174 L (i_iret L st h) := go_eq gd_P0 d 59 174 L st h
theorem x59_175 (d : Nat) (L st : List Value) (h : gd_H) : go gd_P0 d 59 175 L st h = gs gd_P0 d 59 175 L (i_psh (.int 0) 176 L st h) := go_eq gd_P0 d 59 175 L st h
theorem x59_176 (d : Nat) (L st : List Value) (h : gd_H) : go gd_P0 d 59 176 L st h = gs gd_P0 d 59 176 L (i_ist 3 177 L st h) := go_eq gd_P0 d 59 176 L st h
theorem x59_177 (d : Nat) (L st : List Value) (h : gd_H) : go gd_P0 d 59 177 L st h = gs gd_P0 d 59 177 L (i_psh (.int 0) 178 L st h) := go_eq gd_P0 d 59 177 L st h
theorem x59_178 (d : Nat) (L st : List Value) (h : gd_H) : go gd_P0 d 59 178 L st h = gs gd_P0 d 59 178 L (i_ist 4 180 L st h) := go_eq gd_P0 d 59 178 L st h
theorem x59_180 (d : Nat) (L st : List Value) (h : gd_H) : go gd_P0 d 59 180 L st h = gs gd_P0 d 59 180 L (i_msk [true, false, true, true, true] (i_ild 4 182) L st h) := go_eq gd_P0 d 59 180 L st h
theorem x59_182 (d : Nat) (L st : List Value) (h : gd_H) : go gd_P0 d 59 182 L st h = gs gd_P0 d 59 182 L (i_ald 0 183 L st h) := go_eq gd_P0 d 59 182 L st h
theorem x59_183 (d : Nat) (L st : List Value) (h : gd_H) : go gd_P0 d 59 183 L st h = gs gd_P0 d 59 183 L (i_getR 1 15 186 L st h) := go_eq gd_P0 d 59 183 L st h
theorem x59_186 (d : Nat) (L st : List Value) (h : gd_H) : go gd_P0 d 59 186 L st h = gs gd_P0 d 59 186 L (i_getI 6 7 189 L st h) := go_eq gd_P0 d 59 186 L st h
theorem x59_189 (d : Nat) (L st : List Value) (h : gd_H) : go gd_P0 d 59 189 L st h = gs gd_P0 d 59 189 L (i_icge 219 192 L st h) := go_eq gd_P0 d 59 189 L st h
theorem x59_192 (d : Nat) (L st : List Value) (h : gd_H) : go gd_P0 d 59 192 L st h = gs gd_P0 d 59 192 L (i_ald 2 193 L st h) := go_eq gd_P0 d 59 192 L st h
theorem x59_193 (d : Nat) (L st : List Value) (h : gd_H) : go gd_P0 d 59 193 L st h = gs gd_P0 d 59 193 L (i_getR 4 1 196 L st h) := go_eq gd_P0 d 59 193 L st h
theorem x59_196 (d : Nat) (L st : List Value) (h : gd_H) : go gd_P0 d 59 196 L st h = gs gd_P0 d 59 196 L (i_ild 4 198 L st h) := go_eq gd_P0 d 59 196 L st h
theorem x59_198 (d : Nat) (L st : List Value) (h : gd_H) : go gd_P0 d 59 198 L st h = gs gd_P0 d 59 198 L (i_aldI 31 199 L st h) := go_eq gd_P0 d 59 198 L st h
theorem x59_199 (d : Nat) (L st : List Value) (h : gd_H) : go gd_P0 d 59 199 L st h = gs gd_P0 d 59 199 L (i_ald 2 200 L st h) := go_eq gd_P0 d 59 199 L st h
theorem x59_200 (d : Nat) (L st : List Value) (h : gd_H) : go gd_P0 d 59 200 L st h = gs gd_P0 d 59 200 L (i_cV 158 0 4 203 L st h) := go_eq gd_P0 d 59 200 L st h
theorem x59_203 (d : Nat) (L st : List Value) (h : gd_H) : go gd_P0 d 59 203 L st h = gs gd_P0 d 59 203 L (i_msk [true, false, true, true, true] (i_icle 213 206) L st h) := go_eq gd_P0 d 59 203 L st h
theorem x59_206 (d : Nat) (L st : List Value) (h : gd_H) : go gd_P0 d 59 206 L st h = gs gd_P0 d 59 206 L (i_ild 3 207 L st h) := go_eq gd_P0 d 59 206 L st h
theorem x59_207 (d : Nat) (L st : List Value) (h : gd_H) : go gd_P0 d 59 207 L st h = gs gd_P0 d 59 207 L (i_psh (.int 1) 208 L st h) := go_eq gd_P0 d 59 207 L st h
theorem x59_208 (d : Nat) (L st : List Value) (h : gd_H) : go gd_P0 d 59 208 L st h = gs gd_P0 d 59 208 L (i_ild 4 210 L st h) := go_eq gd_P0 d 59 208 L st h
theorem x59_210 (d : Nat) (L st : List Value) (h : gd_H) : go gd_P0 d 59 210 L st h = gs gd_P0 d 59 210 L (i_ishl 211 L st h) := go_eq gd_P0 d 59 210 L st h
theorem x59_211 (d : Nat) (L st : List Value) (h : gd_H) : go gd_P0 d 59 211 L st h = gs gd_P0 d 59 211 L (i_ior 212 L st h) := go_eq gd_P0 d 59 211 L st h
theorem x59_212 (d : Nat) (L st : List Value) (h : gd_H) : go gd_P0 d 59 212 L st h = gs gd_P0 d 59 212 L (i_ist 3 213 L st h) := go_eq gd_P0 d 59 212 L st h
theorem x59_213 (d : Nat) (L st : List Value) (h : gd_H) : go gd_P0 d 59 213 L st h = gs gd_P0 d 59 213 L (i_msk [true, false, true, true, true] (i_inc 4 1 216) L st h) := go_eq gd_P0 d 59 213 L st h
theorem x59_216 (d : Nat) (L st : List Value) (h : gd_H) : go gd_P0 d 59 216 L st h = gs gd_P0 d 59 216 L (i_goto 180 L st h) := go_eq gd_P0 d 59 216 L st h
theorem x59_219 (d : Nat) (L st : List Value) (h : gd_H) : go gd_P0 d 59 219 L st h = gs gd_P0 d 59 219 L (i_ild 3 220 L st h) := go_eq gd_P0 d 59 219 L st h
theorem x59_220 (d : Nat) (L st : List Value) (h : gd_H) : go gd_P0 d 59 220 L st h = gs gd_P0 d 59 220 L (i_iret L st h) := go_eq gd_P0 d 59 220 L st h
theorem s59_0 (d : Nat) (h : gd_H) (v0 : Nat) (v1 : Int32) : go gd_P0 d 59 0 [.ref v0, .int v1, .null, .null, .null] [] h =
    if gT h v0 = 1 then gc gd_P0 d 59 5 8 [.ref v0, .int v1, .null, .null, .null] [] (run gd_P0 d 53 [.ref v0, .int v1, .int 0, .int 11] h) else none :=
  (x59_0 ..).trans ((x59_1 ..).trans ((x59_2 ..).trans ((x59_3 ..).trans ((x59_5 ..).trans ((gs_if ..).trans ((ia9 (by simp)).trans (ic9 rfl rfl)))))))
theorem s59_8 (d : Nat) (h : gd_H) (v0 : Nat) (v1 : Int32) (w2 : Value) (w3 : Value) (w4 : Value) : go gd_P0 d 59 8 [.ref v0, .int v1, w2, w3, w4] [] h =
    if gT h v0 = 1 then if gT h (gR h v0 2) = 3 then gc gd_P0 d 59 12 15 [.ref v0, .int v1, .null, .null, .null] [] (run gd_P0 d 145 [.ref (gR h v0 2)] h) else none else none :=
  (x59_8 ..).trans ((x59_9 ..).trans ((gs_if ..).trans (ic9 ((x59_12 ..).trans ((gs_if ..).trans ((ia9 (by simp)).trans (ic9 rfl rfl)))) rfl)))
theorem s59_15 (d : Nat) (h : gd_H) (v0 : Nat) (v1 : Int32) (w2 : Value) (w3 : Value) (w4 : Value) (z0 : Nat) : go gd_P0 d 59 15 [.ref v0, .int v1, w2, w3, w4] [.ref z0] h =
    if v1 = 0 then if gT h v0 = 1 then if gT h (gR h v0 15) = 6 then some (.inl (some (.int (gI h (gR h v0 15) 6))), h) else none else none else if v1 = 1 then if gT h v0 = 1 then if gT h (gR h v0 15) = 6 then some (.inl (some (.int (gI h (gR h v0 15) 7))), h) else none else none else if v1 = 2 then if gT h z0 = 4 then some (.inl (some (.int (gI h z0 10))), h) else none else if v1 = 3 then if gT h z0 = 4 then gc gd_P0 d 59 98 101 [.ref v0, .int v1, .ref z0, .null, .null] [] (run gd_P0 d 158 [.ref z0] h) else none else if v1 = 4 then if gT h z0 = 4 then some (.inl (some (.int (gI h z0 11))), h) else none else if v1 = 5 then if gT h z0 = 4 then gc gd_P0 d 59 108 111 [.ref v0, .int v1, .ref z0, .null, .null] [] (run gd_P0 d 149 [.ref z0] h) else none else if v1 = 6 then go gd_P0 d 59 117 [.ref v0, .int v1, .ref z0, .int 0, .int 0] [] h else if v1 = 7 then if gT h z0 = 4 then gc gd_P0 d 59 156 159 [.ref v0, .int v1, .ref z0, .null, .null] [] (run gd_P0 d 167 [.ref z0] h) else none else if v1 = 8 then if gT h z0 = 4 then gc gd_P0 d 59 161 164 [.ref v0, .int v1, .ref z0, .null, .null] [] (run gd_P0 d 154 [.ref z0] h) else none else if v1 = 9 then if gT h v0 = 1 then some (.inl (some (.int (gI h v0 18))), h) else none else if v1 = 10 then if gT h v0 = 1 then some (.inl (some (.int (gI h v0 19))), h) else none else go gd_P0 d 59 180 [.ref v0, .int v1, .ref z0, .int 0, .int 0] [] h :=
  (x59_15 ..).trans ((x59_16 ..).trans ((x59_17 ..).trans ((go_if ..).trans (ic9 ((x59_76 ..).trans ((x59_77 ..).trans ((gs_if ..).trans (ic9 ((x59_80 ..).trans ((gs_if ..).trans (ic9 ((x59_83 ..)) rfl))) rfl)))) ((go_if ..).trans (ic9 ((x59_84 ..).trans ((x59_85 ..).trans ((gs_if ..).trans (ic9 ((x59_88 ..).trans ((gs_if ..).trans (ic9 ((x59_91 ..)) rfl))) rfl)))) ((go_if ..).trans (ic9 ((x59_92 ..).trans ((x59_93 ..).trans ((gs_if ..).trans (ic9 ((x59_96 ..)) rfl)))) ((go_if ..).trans (ic9 ((x59_97 ..).trans ((x59_98 ..).trans ((gs_if ..).trans ((ia9 (by simp)).trans (ic9 rfl rfl))))) ((go_if ..).trans (ic9 ((x59_102 ..).trans ((x59_103 ..).trans ((gs_if ..).trans (ic9 ((x59_106 ..)) rfl)))) ((go_if ..).trans (ic9 ((x59_107 ..).trans ((x59_108 ..).trans ((gs_if ..).trans ((ia9 (by simp)).trans (ic9 rfl rfl))))) ((go_if ..).trans (ic9 ((x59_112 ..).trans ((x59_113 ..).trans ((x59_114 ..).trans ((x59_115 ..))))) ((go_if ..).trans (ic9 ((x59_155 ..).trans ((x59_156 ..).trans ((gs_if ..).trans ((ia9 (by simp)).trans (ic9 rfl rfl))))) ((go_if ..).trans (ic9 ((x59_160 ..).trans ((x59_161 ..).trans ((gs_if ..).trans ((ia9 (by simp)).trans (ic9 rfl rfl))))) ((go_if ..).trans (ic9 ((x59_165 ..).trans ((x59_166 ..).trans ((gs_if ..).trans (ic9 ((x59_169 ..)) rfl)))) ((go_if ..).trans (ic9 ((x59_170 ..).trans ((x59_171 ..).trans ((gs_if ..).trans (ic9 ((x59_174 ..)) rfl)))) ((x59_175 ..).trans ((x59_176 ..).trans ((x59_177 ..).trans ((x59_178 ..)))))))))))))))))))))))))))))
theorem s59_101 (d : Nat) (h : gd_H) (w0 : Value) (w1 : Value) (w2 : Value) (w3 : Value) (w4 : Value) (z0 : Int32) : go gd_P0 d 59 101 [w0, w1, w2, w3, w4] [.int z0] h =
    some (.inl (some (.int z0)), h) :=
  (x59_101 ..)
theorem s59_111 (d : Nat) (h : gd_H) (w0 : Value) (w1 : Value) (w2 : Value) (w3 : Value) (w4 : Value) (z0 : Int32) : go gd_P0 d 59 111 [w0, w1, w2, w3, w4] [.int z0] h =
    some (.inl (some (.int z0)), h) :=
  (x59_111 ..)
theorem s59_117 (d : Nat) (h : gd_H) (v0 : Nat) (w1 : Value) (v2 : Nat) (v3 : Int32) (v4 : Int32) : go gd_P0 d 59 117 [.ref v0, w1, .ref v2, .int v3, .int v4] [] h =
    if gT h v0 = 1 then if gT h (gR h v0 15) = 6 then if (gI h (gR h v0 15) 7) ≤ v4 then some (.inl (some (.int v3)), h) else if gT h v2 = 4 then if gT h (gR h v2 3) = 31 ∧ ¬ (v4 < 0 ∨ gL h (gR h v2 3) ≤ Int32.toNatClampNeg v4) then if (gI h (gR h v2 3) (Int32.toNatClampNeg v4)) = (-1) then go gd_P0 d 59 147 [.ref v0, .null, .ref v2, .int v3, .int v4] [] h else go gd_P0 d 59 147 [.ref v0, .null, .ref v2, .int (v3 ||| ((1 : Int32) <<< (v4 &&& 31))), .int v4] [] h else none else none else none else none :=
  (x59_117 ..).trans ((x59_119 ..).trans ((x59_120 ..).trans ((gs_if ..).trans (ic9 ((x59_123 ..).trans ((gs_if ..).trans (ic9 ((x59_126 ..).trans ((gs_if ..).trans (ic9 ((x59_153 ..).trans ((x59_154 ..))) ((x59_129 ..).trans ((x59_130 ..).trans ((gs_if ..).trans (ic9 ((x59_133 ..).trans ((x59_135 ..).trans ((gs_if ..).trans (ic9 ((x59_136 ..).trans ((x59_137 ..).trans ((gs_if ..).trans (ic9 (rfl) ((x59_140 ..).trans ((x59_141 ..).trans ((x59_142 ..).trans ((x59_144 ..).trans ((x59_145 ..).trans ((x59_146 ..))))))))))) rfl)))) rfl))))))) rfl))) rfl))))
theorem s59_147 (d : Nat) (h : gd_H) (v0 : Nat) (w1 : Value) (v2 : Nat) (v3 : Int32) (v4 : Int32) : go gd_P0 d 59 147 [.ref v0, w1, .ref v2, .int v3, .int v4] [] h =
    go gd_P0 d 59 117 [.ref v0, .null, .ref v2, .int v3, .int (v4 + 1)] [] h :=
  (x59_147 ..).trans ((x59_150 ..))
theorem s59_159 (d : Nat) (h : gd_H) (w0 : Value) (w1 : Value) (w2 : Value) (w3 : Value) (w4 : Value) (z0 : Int32) : go gd_P0 d 59 159 [w0, w1, w2, w3, w4] [.int z0] h =
    some (.inl (some (.int z0)), h) :=
  (x59_159 ..)
theorem s59_164 (d : Nat) (h : gd_H) (w0 : Value) (w1 : Value) (w2 : Value) (w3 : Value) (w4 : Value) (z0 : Int32) : go gd_P0 d 59 164 [w0, w1, w2, w3, w4] [.int z0] h =
    some (.inl (some (.int z0)), h) :=
  (x59_164 ..)
theorem s59_180 (d : Nat) (h : gd_H) (v0 : Nat) (w1 : Value) (v2 : Nat) (v3 : Int32) (v4 : Int32) : go gd_P0 d 59 180 [.ref v0, w1, .ref v2, .int v3, .int v4] [] h =
    if gT h v0 = 1 then if gT h (gR h v0 15) = 6 then if (gI h (gR h v0 15) 7) ≤ v4 then some (.inl (some (.int v3)), h) else if gT h v2 = 4 then if gT h (gR h v2 1) = 31 ∧ ¬ (v4 < 0 ∨ gL h (gR h v2 1) ≤ Int32.toNatClampNeg v4) then if gT h v2 = 4 then gc gd_P0 d 59 200 203 [.ref v0, .null, .ref v2, .int v3, .int v4] [.int (gI h (gR h v2 1) (Int32.toNatClampNeg v4))] (run gd_P0 d 158 [.ref v2] h) else none else none else none else none else none :=
  (x59_180 ..).trans ((x59_182 ..).trans ((x59_183 ..).trans ((gs_if ..).trans (ic9 ((x59_186 ..).trans ((gs_if ..).trans (ic9 ((x59_189 ..).trans ((gs_if ..).trans (ic9 ((x59_219 ..).trans ((x59_220 ..))) ((x59_192 ..).trans ((x59_193 ..).trans ((gs_if ..).trans (ic9 ((x59_196 ..).trans ((x59_198 ..).trans ((gs_if ..).trans (ic9 ((x59_199 ..).trans ((x59_200 ..).trans ((gs_if ..).trans ((ia9 (by simp)).trans (ic9 rfl rfl))))) rfl)))) rfl))))))) rfl))) rfl))))
theorem s59_203 (d : Nat) (h : gd_H) (v0 : Nat) (w1 : Value) (v2 : Nat) (v3 : Int32) (v4 : Int32) (z0 : Int32) (z1 : Int32) : go gd_P0 d 59 203 [.ref v0, w1, .ref v2, .int v3, .int v4] [.int z0, .int z1] h =
    if z1 ≤ z0 then go gd_P0 d 59 213 [.ref v0, .null, .ref v2, .int v3, .int v4] [] h else go gd_P0 d 59 213 [.ref v0, .null, .ref v2, .int (v3 ||| ((1 : Int32) <<< (v4 &&& 31))), .int v4] [] h :=
  (x59_203 ..).trans ((gs_nif ..).trans (ic9 (rfl) ((x59_206 ..).trans ((x59_207 ..).trans ((x59_208 ..).trans ((x59_210 ..).trans ((x59_211 ..).trans ((x59_212 ..)))))))))
theorem s59_213 (d : Nat) (h : gd_H) (v0 : Nat) (w1 : Value) (v2 : Nat) (v3 : Int32) (v4 : Int32) : go gd_P0 d 59 213 [.ref v0, w1, .ref v2, .int v3, .int v4] [] h =
    go gd_P0 d 59 180 [.ref v0, .null, .ref v2, .int v3, .int (v4 + 1)] [] h :=
  (x59_213 ..).trans ((x59_216 ..))
theorem r59 (d : Nat) (h : gd_H) (v0 : Nat) (v1 : Int32) : run gd_P0 (d + 1) 59 [.ref v0, .int v1] h = go gd_P0 d 59 0 [.ref v0, .int v1, .null, .null, .null] [] h := run_succ gd_P0 d 59 [.ref v0, .int v1] h (Nat.le_of_ble_eq_true rfl)
theorem x60_0 (d : Nat) (L st : List Value) (h : gd_H) : go gd_P0 d 60 0 L st h = gs gd_P0 d 60 0 L (i_ald 0 1 L st h) := go_eq gd_P0 d 60 0 L st h
theorem x60_1 (d : Nat) (L st : List Value) (h : gd_H) : go gd_P0 d 60 1 L st h = gs gd_P0 d 60 1 L (i_ild 1 2 L st h) := go_eq gd_P0 d 60 1 L st h
theorem x60_2 (d : Nat) (L st : List Value) (h : gd_H) : go gd_P0 d 60 2 L st h = gs gd_P0 d 60 2 L (i_cV 61 1 1 5 L st h) := go_eq gd_P0 d 60 2 L st h
theorem x60_5 (d : Nat) (L st : List Value) (h : gd_H) : go gd_P0 d 60 5 L st h = gs gd_P0 d 60 5 L (i_msk [true, true, true, false, false, false] (i_ald 0 6) L st h) := go_eq gd_P0 d 60 5 L st h
theorem x60_6 (d : Nat) (L st : List Value) (h : gd_H) : go gd_P0 d 60 6 L st h = gs gd_P0 d 60 6 L (i_ild 2 7 L st h) := go_eq gd_P0 d 60 6 L st h
theorem x60_7 (d : Nat) (L st : List Value) (h : gd_H) : go gd_P0 d 60 7 L st h = gs gd_P0 d 60 7 L (i_psh (.int 0) 8 L st h) := go_eq gd_P0 d 60 7 L st h
theorem x60_8 (d : Nat) (L st : List Value) (h : gd_H) : go gd_P0 d 60 8 L st h = gs gd_P0 d 60 8 L (i_psh (.int 4) 9 L st h) := go_eq gd_P0 d 60 8 L st h
theorem x60_9 (d : Nat) (L st : List Value) (h : gd_H) : go gd_P0 d 60 9 L st h = gs gd_P0 d 60 9 L (i_cV 53 3 1 12 L st h) := go_eq gd_P0 d 60 9 L st h
theorem x60_12 (d : Nat) (L st : List Value) (h : gd_H) : go gd_P0 d 60 12 L st h = gs gd_P0 d 60 12 L (i_msk [true, true, true, false, false, false] (i_ald 0 13) L st h) := go_eq gd_P0 d 60 12 L st h
theorem x60_13 (d : Nat) (L st : List Value) (h : gd_H) : go gd_P0 d 60 13 L st h = gs gd_P0 d 60 13 L (i_getR 1 2 16 L st h) := go_eq gd_P0 d 60 13 L st h
theorem x60_16 (d : Nat) (L st : List Value) (h : gd_H) : go gd_P0 d 60 16 L st h = gs gd_P0 d 60 16 L (i_cV 145 0 3 19 L st h) := go_eq gd_P0 d 60 16 L st h
theorem x60_19 (d : Nat) (L st : List Value) (h : gd_H) : go gd_P0 d 60 19 L st h = gs gd_P0 d 60 19 L (i_msk [true, true, true, false, false, false] (i_ast 3 20) L st h) := go_eq gd_P0 d 60 19 L st h
theorem x60_20 (d : Nat) (L st : List Value) (h : gd_H) : go gd_P0 d 60 20 L st h = gs gd_P0 d 60 20 L (i_ild 2 21 L st h) := go_eq gd_P0 d 60 20 L st h
theorem x60_21 (d : Nat) (L st : List Value) (h : gd_H) : go gd_P0 d 60 21 L st h = gs gd_P0 d 60 21 L (i_sw [(0, 52), (1, 62), (2, 72), (3, 79)] 85 L st h) := go_eq gd_P0 d 60 21 L st h
theorem x60_52 (d : Nat) (L st : List Value) (h : gd_H) : go gd_P0 d 60 52 L st h = gs gd_P0 d 60 52 L (i_ald 0 53 L st h) := go_eq gd_P0 d 60 52 L st h
theorem x60_53 (d : Nat) (L st : List Value) (h : gd_H) : go gd_P0 d 60 53 L st h = gs gd_P0 d 60 53 L (i_getR 1 15 56 L st h) := go_eq gd_P0 d 60 53 L st h
theorem x60_56 (d : Nat) (L st : List Value) (h : gd_H) : go gd_P0 d 60 56 L st h = gs gd_P0 d 60 56 L (i_getR 6 0 59 L st h) := go_eq gd_P0 d 60 56 L st h
theorem x60_59 (d : Nat) (L st : List Value) (h : gd_H) : go gd_P0 d 60 59 L st h = gs gd_P0 d 60 59 L (i_ild 1 60 L st h) := go_eq gd_P0 d 60 59 L st h
theorem x60_60 (d : Nat) (L st : List Value) (h : gd_H) : go gd_P0 d 60 60 L st h = gs gd_P0 d 60 60 L (i_aldI 31 61 L st h) := go_eq gd_P0 d 60 60 L st h
theorem x60_61 (d : Nat) (L st : List Value) (h : gd_H) : go gd_P0 d 60 61 L st h = gs gd_P0 d 60 61 L (i_iret L st h) := go_eq gd_P0 d 60 61 L st h
theorem x60_62 (d : Nat) (L st : List Value) (h : gd_H) : go gd_P0 d 60 62 L st h = gs gd_P0 d 60 62 L (i_ald 0 63 L st h) := go_eq gd_P0 d 60 62 L st h
theorem x60_63 (d : Nat) (L st : List Value) (h : gd_H) : go gd_P0 d 60 63 L st h = gs gd_P0 d 60 63 L (i_getR 1 15 66 L st h) := go_eq gd_P0 d 60 63 L st h
theorem x60_66 (d : Nat) (L st : List Value) (h : gd_H) : go gd_P0 d 60 66 L st h = gs gd_P0 d 60 66 L (i_getR 6 1 69 L st h) := go_eq gd_P0 d 60 66 L st h
theorem x60_69 (d : Nat) (L st : List Value) (h : gd_H) : go gd_P0 d 60 69 L st h = gs gd_P0 d 60 69 L (i_ild 1 70 L st h) := go_eq gd_P0 d 60 69 L st h
theorem x60_70 (d : Nat) (L st : List Value) (h : gd_H) : go gd_P0 d 60 70 L st h = gs gd_P0 d 60 70 L (i_aldI 31 71 L st h) := go_eq gd_P0 d 60 70 L st h
theorem x60_71 (d : Nat) (L st : List Value) (h : gd_H) : go gd_P0 d 60 71 L st h = gs gd_P0 d 60 71 L (i_iret L st h) := go_eq gd_P0 d 60 71 L st h
theorem x60_72 (d : Nat) (L st : List Value) (h : gd_H) : go gd_P0 d 60 72 L st h = gs gd_P0 d 60 72 L (i_ald 3 73 L st h) := go_eq gd_P0 d 60 72 L st h
theorem x60_73 (d : Nat) (L st : List Value) (h : gd_H) : go gd_P0 d 60 73 L st h = gs gd_P0 d 60 73 L (i_getR 4 0 76 L st h) := go_eq gd_P0 d 60 73 L st h
theorem x60_76 (d : Nat) (L st : List Value) (h : gd_H) : go gd_P0 d 60 76 L st h = gs gd_P0 d 60 76 L (i_ild 1 77 L st h) := go_eq gd_P0 d 60 76 L st h
theorem x60_77 (d : Nat) (L st : List Value) (h : gd_H) : go gd_P0 d 60 77 L st h = gs gd_P0 d 60 77 L (i_aldI 31 78 L st h) := go_eq gd_P0 d 60 77 L st h
theorem x60_78 (d : Nat) (L st : List Value) (h : gd_H) : go gd_P0 d 60 78 L st h = gs gd_P0 d 60 78 L (i_iret L st h) := go_eq gd_P0 d 60 78 L st h
theorem x60_79 (d : Nat) (L st : List Value) (h : gd_H) : go gd_P0 d 60 79 L st h = gs gd_P0 d 60 79 L (i_ald 3 80 L st h) := go_eq gd_P0 d 60 79 L st h
theorem x60_80 (d : Nat) (L st : List Value) (h : gd_H) : go gd_P0 d 60 80 L st h = gs gd_P0 d 60 80 L (i_ild 1 81 L st h) := go_eq gd_P0 d 60 80 L st h
theorem x60_81 (d : Nat) (L st : List Value) (h : gd_H) : go gd_P0 d 60 81 L st h = gs gd_P0 d 60 81 L (i_cV 157 1 4 84 L st h) := go_eq gd_P0 d 60 81 L st h
theorem x60_84 (d : Nat) (L st : List Value) (h : gd_H) : go gd_P0 d 60 84 L st h = gs gd_P0 d 60 84 L (i_msk [false, false, false, false, false, false] (i_iret) L st h) := go_eq gd_P0 d 60 84 L st h
theorem x60_85 (d : Nat) (L st : List Value) (h : gd_H) : go gd_P0 d 60 85 L st h = gs gd_P0 d 60 85 L (i_psh (.int 0) 86 L st h) := go_eq gd_P0 d 60 85 L st h
theorem x60_86 (d : Nat) (L st : List Value) (h : gd_H) : go gd_P0 d 60 86 L st h = gs gd_P0 d 60 86 L (i_ist 4 88 L st h) := go_eq gd_P0 d 60 86 L st h
theorem x60_88 (d : Nat) (L st : List Value) (h : gd_H) : go gd_P0 d 60 88 L st h = gs gd_P0 d 60 88 L (i_psh (.int 0) 89 L st h) := go_eq gd_P0 d 60 88 L st h
theorem x60_89 (d : Nat) (L st : List Value) (h : gd_H) : go gd_P0 d 60 89 L st h = gs gd_P0 d 60 89 L (i_ist 5 91 L st h) := go_eq gd_P0 d 60 89 L st h
theorem x60_91 (d : Nat) (L st : List Value) (h : gd_H) : go gd_P0 d 60 91 L st h = gs gd_P0 d 60 91 L (i_msk [true, true, false, true, true, true] (i_ild 5 93) L st h) := go_eq gd_P0 d 60 91 L st h
theorem x60_93 (d : Nat) (L st : List Value) (h : gd_H) : go gd_P0 d 60 93 L st h = gs gd_P0 d 60 93 L (i_ald 0 94 L st h) := go_eq gd_P0 d 60 93 L st h
theorem x60_94 (d : Nat) (L st : List Value) (h : gd_H) : go gd_P0 d 60 94 L st h = gs gd_P0 d 60 94 L (i_getR 1 15 97 L st h) := go_eq gd_P0 d 60 94 L st h
theorem x60_97 (d : Nat) (L st : List Value) (h : gd_H) : go gd_P0 d 60 97 L st h = gs gd_P0 d 60 97 L (i_getI 6 7 100 L st h) := go_eq gd_P0 d 60 97 L st h
theorem x60_100 (d : Nat) (L st : List Value) (h : gd_H) : go gd_P0 d 60 100 L st h = gs gd_P0 d 60 100 L (i_icge 129 103 L st h) := go_eq gd_P0 d 60 100 L st h
theorem x60_103 (d : Nat) (L st : List Value) (h : gd_H) : go gd_P0 d 60 103 L st h = gs gd_P0 d 60 103 L (i_ald 3 104 L st h) := go_eq gd_P0 d 60 103 L st h
theorem x60_104 (d : Nat) (L st : List Value) (h : gd_H) : go gd_P0 d 60 104 L st h = gs gd_P0 d 60 104 L (i_getR 4 3 107 L st h) := go_eq gd_P0 d 60 104 L st h
theorem x60_107 (d : Nat) (L st : List Value) (h : gd_H) : go gd_P0 d 60 107 L st h = gs gd_P0 d 60 107 L (i_ild 5 109 L st h) := go_eq gd_P0 d 60 107 L st h
theorem x60_109 (d : Nat) (L st : List Value) (h : gd_H) : go gd_P0 d 60 109 L st h = gs gd_P0 d 60 109 L (i_aldI 31 110 L st h) := go_eq gd_P0 d 60 109 L st h
theorem x60_110 (d : Nat) (L st : List Value) (h : gd_H) : go gd_P0 d 60 110 L st h = gs gd_P0 d 60 110 L (i_ild 1 111 L st h) := go_eq gd_P0 d 60 110 L st h
theorem x60_111 (d : Nat) (L st : List Value) (h : gd_H) : go gd_P0 d 60 111 L st h = gs gd_P0 d 60 111 L (i_icne 123 114 L st h) := go_eq gd_P0 d 60 111 L st h
theorem x60_114 (d : Nat) (L st : List Value) (h : gd_H) : go gd_P0 d 60 114 L st h = gs gd_P0 d 60 114 L (i_ild 4 116 L st h) := go_eq gd_P0 d 60 114 L st h
theorem x60_116 (d : Nat) (L st : List Value) (h : gd_H) : go gd_P0 d 60 116 L st h = gs gd_P0 d 60 116 L (i_psh (.int 1) 117 L st h) := go_eq gd_P0 d 60 116 L st h
theorem x60_117 (d : Nat) (L st : List Value) (h : gd_H) : go gd_P0 d 60 117 L st h = gs gd_P0 d 60 117 L (i_ild 5 119 L st h) := go_eq gd_P0 d 60 117 L st h
theorem x60_119 (d : Nat) (L st : List Value) (h : gd_H) : go gd_P0 d 60 119 L st h = gs gd_P0 d 60 119 L (i_ishl 120 L st h) := go_eq gd_P0 d 60 119 L st h
theorem x60_120 (d : Nat) (L st : List Value) (h : gd_H) : go gd_P0 d 60 120 L st h = gs gd_P0 d 60 120 L (i_ior 121 L st h) := go_eq gd_P0 d 60 120 L st h
theorem x60_121 (d : Nat) (L st : List Value) (h : gd_H) : go gd_P0 d 60 121 L st h = gs gd_P0 d 60 121 L (i_ist 4 123 L st h) := go_eq gd_P0 d 60 121 L st h
theorem x60_123 (d : Nat) (L st : List Value) (h : gd_H) : go gd_P0 d 60 123 L st h = gs gd_P0 d 60 123 L (i_msk [true, true, false, true, true, true] (i_inc 5 1 126) L st h) := go_eq gd_P0 d 60 123 L st h
theorem x60_126 (d : Nat) (L st : List Value) (h : gd_H) : go gd_P0 d 60 126 L st h = gs gd_P0 d 60 126 L (i_goto 91 L st h) := go_eq gd_P0 d 60 126 L st h
theorem x60_129 (d : Nat) (L st : List Value) (h : gd_H) : go gd_P0 d 60 129 L st h = gs gd_P0 d 60 129 L (i_ild 4 131 L st h) := go_eq gd_P0 d 60 129 L st h
theorem x60_131 (d : Nat) (L st : List Value) (h : gd_H) : go gd_P0 d 60 131 L st h = gs gd_P0 d 60 131 L (i_iret L st h) := go_eq gd_P0 d 60 131 L st h
theorem s60_0 (d : Nat) (h : gd_H) (v0 : Nat) (v1 : Int32) (v2 : Int32) : go gd_P0 d 60 0 [.ref v0, .int v1, .int v2, .null, .null, .null] [] h =
    if gT h v0 = 1 then gc gd_P0 d 60 2 5 [.ref v0, .int v1, .int v2, .null, .null, .null] [] (run gd_P0 d 61 [.ref v0, .int v1] h) else none :=
  (x60_0 ..).trans ((x60_1 ..).trans ((x60_2 ..).trans ((gs_if ..).trans ((ia9 (by simp)).trans (ic9 rfl rfl)))))
theorem s60_5 (d : Nat) (h : gd_H) (v0 : Nat) (v1 : Int32) (v2 : Int32) (w3 : Value) (w4 : Value) (w5 : Value) : go gd_P0 d 60 5 [.ref v0, .int v1, .int v2, w3, w4, w5] [] h =
    if gT h v0 = 1 then gc gd_P0 d 60 9 12 [.ref v0, .int v1, .int v2, .null, .null, .null] [] (run gd_P0 d 53 [.ref v0, .int v2, .int 0, .int 4] h) else none :=
  (x60_5 ..).trans ((x60_6 ..).trans ((x60_7 ..).trans ((x60_8 ..).trans ((x60_9 ..).trans ((gs_if ..).trans ((ia9 (by simp)).trans (ic9 rfl rfl)))))))
theorem s60_12 (d : Nat) (h : gd_H) (v0 : Nat) (v1 : Int32) (v2 : Int32) (w3 : Value) (w4 : Value) (w5 : Value) : go gd_P0 d 60 12 [.ref v0, .int v1, .int v2, w3, w4, w5] [] h =
    if gT h v0 = 1 then if gT h (gR h v0 2) = 3 then gc gd_P0 d 60 16 19 [.ref v0, .int v1, .int v2, .null, .null, .null] [] (run gd_P0 d 145 [.ref (gR h v0 2)] h) else none else none :=
  (x60_12 ..).trans ((x60_13 ..).trans ((gs_if ..).trans (ic9 ((x60_16 ..).trans ((gs_if ..).trans ((ia9 (by simp)).trans (ic9 rfl rfl)))) rfl)))
theorem s60_19 (d : Nat) (h : gd_H) (v0 : Nat) (v1 : Int32) (v2 : Int32) (w3 : Value) (w4 : Value) (w5 : Value) (z0 : Nat) : go gd_P0 d 60 19 [.ref v0, .int v1, .int v2, w3, w4, w5] [.ref z0] h =
    if v2 = 0 then if gT h v0 = 1 then if gT h (gR h v0 15) = 6 then if gT h (gR h (gR h v0 15) 0) = 31 ∧ ¬ (v1 < 0 ∨ gL h (gR h (gR h v0 15) 0) ≤ Int32.toNatClampNeg v1) then some (.inl (some (.int (gI h (gR h (gR h v0 15) 0) (Int32.toNatClampNeg v1)))), h) else none else none else none else if v2 = 1 then if gT h v0 = 1 then if gT h (gR h v0 15) = 6 then if gT h (gR h (gR h v0 15) 1) = 31 ∧ ¬ (v1 < 0 ∨ gL h (gR h (gR h v0 15) 1) ≤ Int32.toNatClampNeg v1) then some (.inl (some (.int (gI h (gR h (gR h v0 15) 1) (Int32.toNatClampNeg v1)))), h) else none else none else none else if v2 = 2 then if gT h z0 = 4 then if gT h (gR h z0 0) = 31 ∧ ¬ (v1 < 0 ∨ gL h (gR h z0 0) ≤ Int32.toNatClampNeg v1) then some (.inl (some (.int (gI h (gR h z0 0) (Int32.toNatClampNeg v1)))), h) else none else none else if v2 = 3 then if gT h z0 = 4 then gc gd_P0 d 60 81 84 [.ref v0, .int v1, .int v2, .ref z0, .null, .null] [] (run gd_P0 d 157 [.ref z0, .int v1] h) else none else go gd_P0 d 60 91 [.ref v0, .int v1, .int v2, .ref z0, .int 0, .int 0] [] h :=
  (x60_19 ..).trans ((x60_20 ..).trans ((x60_21 ..).trans ((go_if ..).trans (ic9 ((x60_52 ..).trans ((x60_53 ..).trans ((gs_if ..).trans (ic9 ((x60_56 ..).trans ((gs_if ..).trans (ic9 ((x60_59 ..).trans ((x60_60 ..).trans ((gs_if ..).trans (ic9 ((x60_61 ..)) rfl)))) rfl))) rfl)))) ((go_if ..).trans (ic9 ((x60_62 ..).trans ((x60_63 ..).trans ((gs_if ..).trans (ic9 ((x60_66 ..).trans ((gs_if ..).trans (ic9 ((x60_69 ..).trans ((x60_70 ..).trans ((gs_if ..).trans (ic9 ((x60_71 ..)) rfl)))) rfl))) rfl)))) ((go_if ..).trans (ic9 ((x60_72 ..).trans ((x60_73 ..).trans ((gs_if ..).trans (ic9 ((x60_76 ..).trans ((x60_77 ..).trans ((gs_if ..).trans (ic9 ((x60_78 ..)) rfl)))) rfl)))) ((go_if ..).trans (ic9 ((x60_79 ..).trans ((x60_80 ..).trans ((x60_81 ..).trans ((gs_if ..).trans ((ia9 (by simp)).trans (ic9 rfl rfl)))))) ((x60_85 ..).trans ((x60_86 ..).trans ((x60_88 ..).trans ((x60_89 ..)))))))))))))))
theorem s60_84 (d : Nat) (h : gd_H) (w0 : Value) (w1 : Value) (w2 : Value) (w3 : Value) (w4 : Value) (w5 : Value) (z0 : Int32) : go gd_P0 d 60 84 [w0, w1, w2, w3, w4, w5] [.int z0] h =
    some (.inl (some (.int z0)), h) :=
  (x60_84 ..)
theorem s60_91 (d : Nat) (h : gd_H) (v0 : Nat) (v1 : Int32) (w2 : Value) (v3 : Nat) (v4 : Int32) (v5 : Int32) : go gd_P0 d 60 91 [.ref v0, .int v1, w2, .ref v3, .int v4, .int v5] [] h =
    if gT h v0 = 1 then if gT h (gR h v0 15) = 6 then if (gI h (gR h v0 15) 7) ≤ v5 then some (.inl (some (.int v4)), h) else if gT h v3 = 4 then if gT h (gR h v3 3) = 31 ∧ ¬ (v5 < 0 ∨ gL h (gR h v3 3) ≤ Int32.toNatClampNeg v5) then if (gI h (gR h v3 3) (Int32.toNatClampNeg v5)) = v1 then go gd_P0 d 60 123 [.ref v0, .int v1, .null, .ref v3, .int (v4 ||| ((1 : Int32) <<< (v5 &&& 31))), .int v5] [] h else go gd_P0 d 60 123 [.ref v0, .int v1, .null, .ref v3, .int v4, .int v5] [] h else none else none else none else none :=
  (x60_91 ..).trans ((x60_93 ..).trans ((x60_94 ..).trans ((gs_if ..).trans (ic9 ((x60_97 ..).trans ((gs_if ..).trans (ic9 ((x60_100 ..).trans ((gs_if ..).trans (ic9 ((x60_129 ..).trans ((x60_131 ..))) ((x60_103 ..).trans ((x60_104 ..).trans ((gs_if ..).trans (ic9 ((x60_107 ..).trans ((x60_109 ..).trans ((gs_if ..).trans (ic9 ((x60_110 ..).trans ((x60_111 ..).trans ((gs_if ..).trans (ic9 ((x60_114 ..).trans ((x60_116 ..).trans ((x60_117 ..).trans ((x60_119 ..).trans ((x60_120 ..).trans ((x60_121 ..))))))) (rfl))))) rfl)))) rfl))))))) rfl))) rfl))))
theorem s60_123 (d : Nat) (h : gd_H) (v0 : Nat) (v1 : Int32) (w2 : Value) (v3 : Nat) (v4 : Int32) (v5 : Int32) : go gd_P0 d 60 123 [.ref v0, .int v1, w2, .ref v3, .int v4, .int v5] [] h =
    go gd_P0 d 60 91 [.ref v0, .int v1, .null, .ref v3, .int v4, .int (v5 + 1)] [] h :=
  (x60_123 ..).trans ((x60_126 ..))
theorem r60 (d : Nat) (h : gd_H) (v0 : Nat) (v1 : Int32) (v2 : Int32) : run gd_P0 (d + 1) 60 [.ref v0, .int v1, .int v2] h = go gd_P0 d 60 0 [.ref v0, .int v1, .int v2, .null, .null, .null] [] h := run_succ gd_P0 d 60 [.ref v0, .int v1, .int v2] h (Nat.le_of_ble_eq_true rfl)
theorem x61_0 (d : Nat) (L st : List Value) (h : gd_H) : go gd_P0 d 61 0 L st h = gs gd_P0 d 61 0 L (i_ald 0 1 L st h) := go_eq gd_P0 d 61 0 L st h
theorem x61_1 (d : Nat) (L st : List Value) (h : gd_H) : go gd_P0 d 61 1 L st h = gs gd_P0 d 61 1 L (i_ild 1 2 L st h) := go_eq gd_P0 d 61 1 L st h
theorem x61_2 (d : Nat) (L st : List Value) (h : gd_H) : go gd_P0 d 61 2 L st h = gs gd_P0 d 61 2 L (i_ald 0 3 L st h) := go_eq gd_P0 d 61 2 L st h
theorem x61_3 (d : Nat) (L st : List Value) (h : gd_H) : go gd_P0 d 61 3 L st h = gs gd_P0 d 61 3 L (i_getR 1 15 6 L st h) := go_eq gd_P0 d 61 3 L st h
theorem x61_6 (d : Nat) (L st : List Value) (h : gd_H) : go gd_P0 d 61 6 L st h = gs gd_P0 d 61 6 L (i_getI 6 6 9 L st h) := go_eq gd_P0 d 61 6 L st h
theorem x61_9 (d : Nat) (L st : List Value) (h : gd_H) : go gd_P0 d 61 9 L st h = gs gd_P0 d 61 9 L (i_cV 62 2 1 12 L st h) := go_eq gd_P0 d 61 9 L st h
theorem x61_12 (d : Nat) (L st : List Value) (h : gd_H) : go gd_P0 d 61 12 L st h = gs gd_P0 d 61 12 L (i_msk [false, false] (i_ret) L st h) := go_eq gd_P0 d 61 12 L st h
theorem s61_0 (d : Nat) (h : gd_H) (v0 : Nat) (v1 : Int32) : go gd_P0 d 61 0 [.ref v0, .int v1] [] h =
    if gT h v0 = 1 then if gT h (gR h v0 15) = 6 then if gT h v0 = 1 then gc gd_P0 d 61 9 12 [.ref v0, .int v1] [] (run gd_P0 d 62 [.ref v0, .int v1, .int (gI h (gR h v0 15) 6)] h) else none else none else none :=
  (x61_0 ..).trans ((x61_1 ..).trans ((x61_2 ..).trans ((x61_3 ..).trans ((gs_if ..).trans (ic9 ((x61_6 ..).trans ((gs_if ..).trans (ic9 ((x61_9 ..).trans ((gs_if ..).trans ((ia9 (by simp)).trans (ic9 rfl rfl)))) rfl))) rfl)))))
theorem s61_12 (d : Nat) (h : gd_H) (w0 : Value) (w1 : Value) : go gd_P0 d 61 12 [w0, w1] [] h =
    some (.inl none, h) :=
  (x61_12 ..)
theorem r61 (d : Nat) (h : gd_H) (v0 : Nat) (v1 : Int32) : run gd_P0 (d + 1) 61 [.ref v0, .int v1] h = go gd_P0 d 61 0 [.ref v0, .int v1] [] h := run_succ gd_P0 d 61 [.ref v0, .int v1] h (Nat.le_of_ble_eq_true rfl)
theorem x62_0 (d : Nat) (L st : List Value) (h : gd_H) : go gd_P0 d 62 0 L st h = gs gd_P0 d 62 0 L (i_ild 1 1 L st h) := go_eq gd_P0 d 62 0 L st h
theorem x62_1 (d : Nat) (L st : List Value) (h : gd_H) : go gd_P0 d 62 1 L st h = gs gd_P0 d 62 1 L (i_iflt 10 4 L st h) := go_eq gd_P0 d 62 1 L st h
theorem x62_4 (d : Nat) (L st : List Value) (h : gd_H) : go gd_P0 d 62 4 L st h = gs gd_P0 d 62 4 L (i_ild 1 5 L st h) := go_eq gd_P0 d 62 4 L st h
theorem x62_5 (d : Nat) (L st : List Value) (h : gd_H) : go gd_P0 d 62 5 L st h = gs gd_P0 d 62 5 L (i_ild 2 6 L st h) := go_eq gd_P0 d 62 5 L st h
theorem x62_6 (d : Nat) (L st : List Value) (h : gd_H) : go gd_P0 d 62 6 L st h = gs gd_P0 d 62 6 L (i_icge 10 9 L st h) := go_eq gd_P0 d 62 6 L st h
theorem x62_9 (d : Nat) (L st : List Value) (h : gd_H) : go gd_P0 d 62 9 L st h = gs gd_P0 d 62 9 L (i_ret L st h) := go_eq gd_P0 d 62 9 L st h
theorem x62_10 (d : Nat) (L st : List Value) (h : gd_H) : go gd_P0 d 62 10 L st h = gs gd_P0 d 62 10 L (i_msk [true, false, false] (i_ald 0 11) L st h) := go_eq gd_P0 d 62 10 L st h
theorem x62_11 (d : Nat) (L st : List Value) (h : gd_H) : go gd_P0 d 62 11 L st h = gs gd_P0 d 62 11 L (i_getR 1 7 14 L st h) := go_eq gd_P0 d 62 11 L st h
theorem x62_14 (d : Nat) (L st : List Value) (h : gd_H) : go gd_P0 d 62 14 L st h = gs gd_P0 d 62 14 L (i_psh (.int 0) 15 L st h) := go_eq gd_P0 d 62 14 L st h
theorem x62_15 (d : Nat) (L st : List Value) (h : gd_H) : go gd_P0 d 62 15 L st h = gs gd_P0 d 62 15 L (i_dup2 16 L st h) := go_eq gd_P0 d 62 15 L st h
theorem x62_16 (d : Nat) (L st : List Value) (h : gd_H) : go gd_P0 d 62 16 L st h = gs gd_P0 d 62 16 L (i_aldI 31 17 L st h) := go_eq gd_P0 d 62 16 L st h
theorem x62_17 (d : Nat) (L st : List Value) (h : gd_H) : go gd_P0 d 62 17 L st h = gs gd_P0 d 62 17 L (i_psh (.int 1) 18 L st h) := go_eq gd_P0 d 62 17 L st h
theorem x62_18 (d : Nat) (L st : List Value) (h : gd_H) : go gd_P0 d 62 18 L st h = gs gd_P0 d 62 18 L (i_iadd 19 L st h) := go_eq gd_P0 d 62 18 L st h
theorem x62_19 (d : Nat) (L st : List Value) (h : gd_H) : go gd_P0 d 62 19 L st h = gs gd_P0 d 62 19 L (i_astI 20 L st h) := go_eq gd_P0 d 62 19 L st h
theorem x62_20 (d : Nat) (L st : List Value) (h : gd_H) : go gd_P0 d 62 20 L st h = gs gd_P0 d 62 20 L (i_mk0 24 27 L st h) := go_eq gd_P0 d 62 20 L st h
theorem x62_27 (d : Nat) (L st : List Value) (h : gd_H) : go gd_P0 d 62 27 L st h = gs gd_P0 d 62 27 L (i_thr L st h) := go_eq gd_P0 d 62 27 L st h
theorem s62_0 (d : Nat) (h : gd_H) (v0 : Nat) (v1 : Int32) (v2 : Int32) : go gd_P0 d 62 0 [.ref v0, .int v1, .int v2] [] h =
    if v1 < 0 then go gd_P0 d 62 10 [.ref v0, .int v1, .int v2] [] h else if v2 ≤ v1 then go gd_P0 d 62 10 [.ref v0, .int v1, .int v2] [] h else some (.inl none, h) :=
  (x62_0 ..).trans ((x62_1 ..).trans ((gs_if ..).trans (ic9 (rfl) ((x62_4 ..).trans ((x62_5 ..).trans ((x62_6 ..).trans ((gs_if ..).trans (ic9 (rfl) ((x62_9 ..))))))))))
theorem s62_10 (d : Nat) (h : gd_H) (v0 : Nat) (w1 : Value) (w2 : Value) : go gd_P0 d 62 10 [.ref v0, w1, w2] [] h =
    if gT h v0 = 1 then if gT h (gR h v0 7) = 31 ∧ ¬ ((0 : Int32) < 0 ∨ gL h (gR h v0 7) ≤ Int32.toNatClampNeg (0 : Int32)) then if gT h (gR h v0 7) = 31 ∧ ¬ ((0 : Int32) < 0 ∨ gL h (gR h v0 7) ≤ Int32.toNatClampNeg (0 : Int32)) then go gd_P0 d 62 27 [.ref v0, .null, .null] [.ref (gS h)] (nw (wI h (up1 (gI h) (gR h v0 7) (Int32.toNatClampNeg (0 : Int32)) ((gI h (gR h v0 7) (Int32.toNatClampNeg 0)) + 1))) 24 0 6) else none else none else none :=
  (x62_10 ..).trans ((x62_11 ..).trans ((gs_if ..).trans (ic9 ((x62_14 ..).trans ((x62_15 ..).trans ((x62_16 ..).trans ((gs_if ..).trans (ic9 ((x62_17 ..).trans ((x62_18 ..).trans ((x62_19 ..).trans ((gs_if ..).trans (ic9 ((x62_20 ..)) rfl))))) rfl))))) rfl)))
theorem s62_27 (d : Nat) (h : gd_H) (w0 : Value) (w1 : Value) (w2 : Value) (z0 : Nat) : go gd_P0 d 62 27 [w0, w1, w2] [.ref z0] h =
    if 4 ≤ z0 then gx gd_P0 d 62 27 [w0, w1, w2] z0 h else none :=
  (x62_27 ..).trans ((gs_if ..).trans (ic9 rfl rfl))
theorem r62 (d : Nat) (h : gd_H) (v0 : Nat) (v1 : Int32) (v2 : Int32) : run gd_P0 (d + 1) 62 [.ref v0, .int v1, .int v2] h = go gd_P0 d 62 0 [.ref v0, .int v1, .int v2] [] h := run_succ gd_P0 d 62 [.ref v0, .int v1, .int v2] h (Nat.le_of_ble_eq_true rfl)
theorem x63_0 (d : Nat) (L st : List Value) (h : gd_H) : go gd_P0 d 63 0 L st h = gs gd_P0 d 63 0 L (i_ald 0 1 L st h) := go_eq gd_P0 d 63 0 L st h
theorem x63_1 (d : Nat) (L st : List Value) (h : gd_H) : go gd_P0 d 63 1 L st h = gs gd_P0 d 63 1 L (i_ild 1 2 L st h) := go_eq gd_P0 d 63 1 L st h
theorem x63_2 (d : Nat) (L st : List Value) (h : gd_H) : go gd_P0 d 63 2 L st h = gs gd_P0 d 63 2 L (i_cV 64 1 1 5 L st h) := go_eq gd_P0 d 63 2 L st h
theorem x63_5 (d : Nat) (L st : List Value) (h : gd_H) : go gd_P0 d 63 5 L st h = gs gd_P0 d 63 5 L (i_msk [true, true, true, false] (i_ald 0 6) L st h) := go_eq gd_P0 d 63 5 L st h
theorem x63_6 (d : Nat) (L st : List Value) (h : gd_H) : go gd_P0 d 63 6 L st h = gs gd_P0 d 63 6 L (i_ild 2 7 L st h) := go_eq gd_P0 d 63 6 L st h
theorem x63_7 (d : Nat) (L st : List Value) (h : gd_H) : go gd_P0 d 63 7 L st h = gs gd_P0 d 63 7 L (i_psh (.int 0) 8 L st h) := go_eq gd_P0 d 63 7 L st h
theorem x63_8 (d : Nat) (L st : List Value) (h : gd_H) : go gd_P0 d 63 8 L st h = gs gd_P0 d 63 8 L (i_psh (.int 7) 10 L st h) := go_eq gd_P0 d 63 8 L st h
theorem x63_10 (d : Nat) (L st : List Value) (h : gd_H) : go gd_P0 d 63 10 L st h = gs gd_P0 d 63 10 L (i_cV 53 3 1 13 L st h) := go_eq gd_P0 d 63 10 L st h
theorem x63_13 (d : Nat) (L st : List Value) (h : gd_H) : go gd_P0 d 63 13 L st h = gs gd_P0 d 63 13 L (i_msk [true, true, true, false] (i_ald 0 14) L st h) := go_eq gd_P0 d 63 13 L st h
theorem x63_14 (d : Nat) (L st : List Value) (h : gd_H) : go gd_P0 d 63 14 L st h = gs gd_P0 d 63 14 L (i_getR 1 2 17 L st h) := go_eq gd_P0 d 63 14 L st h
theorem x63_17 (d : Nat) (L st : List Value) (h : gd_H) : go gd_P0 d 63 17 L st h = gs gd_P0 d 63 17 L (i_cV 145 0 3 20 L st h) := go_eq gd_P0 d 63 17 L st h
theorem x63_20 (d : Nat) (L st : List Value) (h : gd_H) : go gd_P0 d 63 20 L st h = gs gd_P0 d 63 20 L (i_msk [true, true, true, false] (i_ast 3 21) L st h) := go_eq gd_P0 d 63 20 L st h
theorem x63_21 (d : Nat) (L st : List Value) (h : gd_H) : go gd_P0 d 63 21 L st h = gs gd_P0 d 63 21 L (i_ild 2 22 L st h) := go_eq gd_P0 d 63 21 L st h
theorem x63_22 (d : Nat) (L st : List Value) (h : gd_H) : go gd_P0 d 63 22 L st h = gs gd_P0 d 63 22 L (i_sw [(0, 64), (1, 71), (2, 78), (3, 85), (4, 91), (5, 97), (6, 111)] 121 L st h) := go_eq gd_P0 d 63 22 L st h
theorem x63_64 (d : Nat) (L st : List Value) (h : gd_H) : go gd_P0 d 63 64 L st h = gs gd_P0 d 63 64 L (i_ald 3 65 L st h) := go_eq gd_P0 d 63 64 L st h
theorem x63_65 (d : Nat) (L st : List Value) (h : gd_H) : go gd_P0 d 63 65 L st h = gs gd_P0 d 63 65 L (i_getR 4 1 68 L st h) := go_eq gd_P0 d 63 65 L st h
theorem x63_68 (d : Nat) (L st : List Value) (h : gd_H) : go gd_P0 d 63 68 L st h = gs gd_P0 d 63 68 L (i_ild 1 69 L st h) := go_eq gd_P0 d 63 68 L st h
theorem x63_69 (d : Nat) (L st : List Value) (h : gd_H) : go gd_P0 d 63 69 L st h = gs gd_P0 d 63 69 L (i_aldI 31 70 L st h) := go_eq gd_P0 d 63 69 L st h
theorem x63_70 (d : Nat) (L st : List Value) (h : gd_H) : go gd_P0 d 63 70 L st h = gs gd_P0 d 63 70 L (i_iret L st h) := go_eq gd_P0 d 63 70 L st h
theorem x63_71 (d : Nat) (L st : List Value) (h : gd_H) : go gd_P0 d 63 71 L st h = gs gd_P0 d 63 71 L (i_ald 3 72 L st h) := go_eq gd_P0 d 63 71 L st h
theorem x63_72 (d : Nat) (L st : List Value) (h : gd_H) : go gd_P0 d 63 72 L st h = gs gd_P0 d 63 72 L (i_getR 4 2 75 L st h) := go_eq gd_P0 d 63 72 L st h
theorem x63_75 (d : Nat) (L st : List Value) (h : gd_H) : go gd_P0 d 63 75 L st h = gs gd_P0 d 63 75 L (i_ild 1 76 L st h) := go_eq gd_P0 d 63 75 L st h
theorem x63_76 (d : Nat) (L st : List Value) (h : gd_H) : go gd_P0 d 63 76 L st h = gs gd_P0 d 63 76 L (i_aldI 31 77 L st h) := go_eq gd_P0 d 63 76 L st h
theorem x63_77 (d : Nat) (L st : List Value) (h : gd_H) : go gd_P0 d 63 77 L st h = gs gd_P0 d 63 77 L (i_iret L st h) := go_eq gd_P0 d 63 77 L st h
theorem x63_78 (d : Nat) (L st : List Value) (h : gd_H) : go gd_P0 d 63 78 L st h = gs gd_P0 d 63 78 L (i_ald 3 79 L st h) := go_eq gd_P0 d 63 78 L st h
theorem x63_79 (d : Nat) (L st : List Value) (h : gd_H) : go gd_P0 d 63 79 L st h = gs gd_P0 d 63 79 L (i_getR 4 3 82 L st h) := go_eq gd_P0 d 63 79 L st h
theorem x63_82 (d : Nat) (L st : List Value) (h : gd_H) : go gd_P0 d 63 82 L st h = gs gd_P0 d 63 82 L (i_ild 1 83 L st h) := go_eq gd_P0 d 63 82 L st h
theorem x63_83 (d : Nat) (L st : List Value) (h : gd_H) : go gd_P0 d 63 83 L st h = gs gd_P0 d 63 83 L (i_aldI 31 84 L st h) := go_eq gd_P0 d 63 83 L st h
theorem x63_84 (d : Nat) (L st : List Value) (h : gd_H) : go gd_P0 d 63 84 L st h = gs gd_P0 d 63 84 L (i_iret L st h) := go_eq gd_P0 d 63 84 L st h
theorem x63_85 (d : Nat) (L st : List Value) (h : gd_H) : go gd_P0 d 63 85 L st h = gs gd_P0 d 63 85 L (i_ald 3 86 L st h) := go_eq gd_P0 d 63 85 L st h
theorem x63_86 (d : Nat) (L st : List Value) (h : gd_H) : go gd_P0 d 63 86 L st h = gs gd_P0 d 63 86 L (i_ild 1 87 L st h) := go_eq gd_P0 d 63 86 L st h
theorem x63_87 (d : Nat) (L st : List Value) (h : gd_H) : go gd_P0 d 63 87 L st h = gs gd_P0 d 63 87 L (i_cV 156 1 4 90 L st h) := go_eq gd_P0 d 63 87 L st h
theorem x63_90 (d : Nat) (L st : List Value) (h : gd_H) : go gd_P0 d 63 90 L st h = gs gd_P0 d 63 90 L (i_msk [false, false, false, false] (i_iret) L st h) := go_eq gd_P0 d 63 90 L st h
theorem x63_91 (d : Nat) (L st : List Value) (h : gd_H) : go gd_P0 d 63 91 L st h = gs gd_P0 d 63 91 L (i_ald 3 92 L st h) := go_eq gd_P0 d 63 91 L st h
theorem x63_92 (d : Nat) (L st : List Value) (h : gd_H) : go gd_P0 d 63 92 L st h = gs gd_P0 d 63 92 L (i_ild 1 93 L st h) := go_eq gd_P0 d 63 92 L st h
theorem x63_93 (d : Nat) (L st : List Value) (h : gd_H) : go gd_P0 d 63 93 L st h = gs gd_P0 d 63 93 L (i_cV 155 1 4 96 L st h) := go_eq gd_P0 d 63 93 L st h
theorem x63_96 (d : Nat) (L st : List Value) (h : gd_H) : go gd_P0 d 63 96 L st h = gs gd_P0 d 63 96 L (i_msk [false, false, false, false] (i_iret) L st h) := go_eq gd_P0 d 63 96 L st h
theorem x63_97 (d : Nat) (L st : List Value) (h : gd_H) : go gd_P0 d 63 97 L st h = gs gd_P0 d 63 97 L (i_ald 3 98 L st h) := go_eq gd_P0 d 63 97 L st h
theorem x63_98 (d : Nat) (L st : List Value) (h : gd_H) : go gd_P0 d 63 98 L st h = gs gd_P0 d 63 98 L (i_ild 1 99 L st h) := go_eq gd_P0 d 63 98 L st h
theorem x63_99 (d : Nat) (L st : List Value) (h : gd_H) : go gd_P0 d 63 99 L st h = gs gd_P0 d 63 99 L (i_cV 161 1 4 102 L st h) := go_eq gd_P0 d 63 99 L st h
theorem x63_102 (d : Nat) (L st : List Value) (h : gd_H) : go gd_P0 d 63 102 L st h = gs gd_P0 d 63 102 L (i_msk [false, false, false, false] (i_ifeq 109 105) L st h) := go_eq gd_P0 d 63 102 L st h
theorem x63_105 (d : Nat) (L st : List Value) (h : gd_H) : go gd_P0 d 63 105 L st h = gs gd_P0 d 63 105 L (i_psh (.int 1) 106 L st h) := go_eq gd_P0 d 63 105 L st h
theorem x63_106 (d : Nat) (L st : List Value) (h : gd_H) : go gd_P0 d 63 106 L st h = gs gd_P0 d 63 106 L (i_goto 110 L st h) := go_eq gd_P0 d 63 106 L st h
theorem x63_109 (d : Nat) (L st : List Value) (h : gd_H) : go gd_P0 d 63 109 L st h = gs gd_P0 d 63 109 L (i_psh (.int 0) 110 L st h) := go_eq gd_P0 d 63 109 L st h
theorem x63_110 (d : Nat) (L st : List Value) (h : gd_H) : go gd_P0 d 63 110 L st h = gs gd_P0 d 63 110 L (i_msk [false, false, false, false] (i_iret) L st h) := go_eq gd_P0 d 63 110 L st h
theorem x63_111 (d : Nat) (L st : List Value) (h : gd_H) : go gd_P0 d 63 111 L st h = gs gd_P0 d 63 111 L (i_ald 0 112 L st h) := go_eq gd_P0 d 63 111 L st h
theorem x63_112 (d : Nat) (L st : List Value) (h : gd_H) : go gd_P0 d 63 112 L st h = gs gd_P0 d 63 112 L (i_getR 1 15 115 L st h) := go_eq gd_P0 d 63 112 L st h
theorem x63_115 (d : Nat) (L st : List Value) (h : gd_H) : go gd_P0 d 63 115 L st h = gs gd_P0 d 63 115 L (i_getR 6 4 118 L st h) := go_eq gd_P0 d 63 115 L st h
theorem x63_118 (d : Nat) (L st : List Value) (h : gd_H) : go gd_P0 d 63 118 L st h = gs gd_P0 d 63 118 L (i_ild 1 119 L st h) := go_eq gd_P0 d 63 118 L st h
theorem x63_119 (d : Nat) (L st : List Value) (h : gd_H) : go gd_P0 d 63 119 L st h = gs gd_P0 d 63 119 L (i_aldI 31 120 L st h) := go_eq gd_P0 d 63 119 L st h
theorem x63_120 (d : Nat) (L st : List Value) (h : gd_H) : go gd_P0 d 63 120 L st h = gs gd_P0 d 63 120 L (i_iret L st h) := go_eq gd_P0 d 63 120 L st h
theorem x63_121 (d : Nat) (L st : List Value) (h : gd_H) : go gd_P0 d 63 121 L st h = gs gd_P0 d 63 121 L (i_ald 3 122 L st h) := go_eq gd_P0 d 63 121 L st h
theorem x63_122 (d : Nat) (L st : List Value) (h : gd_H) : go gd_P0 d 63 122 L st h = gs gd_P0 d 63 122 L (i_getR 4 5 125 L st h) := go_eq gd_P0 d 63 122 L st h
theorem x63_125 (d : Nat) (L st : List Value) (h : gd_H) : go gd_P0 d 63 125 L st h = gs gd_P0 d 63 125 L (i_ild 1 126 L st h) := go_eq gd_P0 d 63 125 L st h
theorem x63_126 (d : Nat) (L st : List Value) (h : gd_H) : go gd_P0 d 63 126 L st h = gs gd_P0 d 63 126 L (i_aldI 31 127 L st h) := go_eq gd_P0 d 63 126 L st h
theorem x63_127 (d : Nat) (L st : List Value) (h : gd_H) : go gd_P0 d 63 127 L st h = gs gd_P0 d 63 127 L (i_iret L st h) := go_eq gd_P0 d 63 127 L st h
theorem s63_0 (d : Nat) (h : gd_H) (v0 : Nat) (v1 : Int32) (v2 : Int32) : go gd_P0 d 63 0 [.ref v0, .int v1, .int v2, .null] [] h =
    if gT h v0 = 1 then gc gd_P0 d 63 2 5 [.ref v0, .int v1, .int v2, .null] [] (run gd_P0 d 64 [.ref v0, .int v1] h) else none :=
  (x63_0 ..).trans ((x63_1 ..).trans ((x63_2 ..).trans ((gs_if ..).trans ((ia9 (by simp)).trans (ic9 rfl rfl)))))
theorem s63_5 (d : Nat) (h : gd_H) (v0 : Nat) (v1 : Int32) (v2 : Int32) (w3 : Value) : go gd_P0 d 63 5 [.ref v0, .int v1, .int v2, w3] [] h =
    if gT h v0 = 1 then gc gd_P0 d 63 10 13 [.ref v0, .int v1, .int v2, .null] [] (run gd_P0 d 53 [.ref v0, .int v2, .int 0, .int 7] h) else none :=
  (x63_5 ..).trans ((x63_6 ..).trans ((x63_7 ..).trans ((x63_8 ..).trans ((x63_10 ..).trans ((gs_if ..).trans ((ia9 (by simp)).trans (ic9 rfl rfl)))))))
theorem s63_13 (d : Nat) (h : gd_H) (v0 : Nat) (v1 : Int32) (v2 : Int32) (w3 : Value) : go gd_P0 d 63 13 [.ref v0, .int v1, .int v2, w3] [] h =
    if gT h v0 = 1 then if gT h (gR h v0 2) = 3 then gc gd_P0 d 63 17 20 [.ref v0, .int v1, .int v2, .null] [] (run gd_P0 d 145 [.ref (gR h v0 2)] h) else none else none :=
  (x63_13 ..).trans ((x63_14 ..).trans ((gs_if ..).trans (ic9 ((x63_17 ..).trans ((gs_if ..).trans ((ia9 (by simp)).trans (ic9 rfl rfl)))) rfl)))
theorem s63_20 (d : Nat) (h : gd_H) (v0 : Nat) (v1 : Int32) (v2 : Int32) (w3 : Value) (z0 : Nat) : go gd_P0 d 63 20 [.ref v0, .int v1, .int v2, w3] [.ref z0] h =
    if v2 = 0 then if gT h z0 = 4 then if gT h (gR h z0 1) = 31 ∧ ¬ (v1 < 0 ∨ gL h (gR h z0 1) ≤ Int32.toNatClampNeg v1) then some (.inl (some (.int (gI h (gR h z0 1) (Int32.toNatClampNeg v1)))), h) else none else none else if v2 = 1 then if gT h z0 = 4 then if gT h (gR h z0 2) = 31 ∧ ¬ (v1 < 0 ∨ gL h (gR h z0 2) ≤ Int32.toNatClampNeg v1) then some (.inl (some (.int (gI h (gR h z0 2) (Int32.toNatClampNeg v1)))), h) else none else none else if v2 = 2 then if gT h z0 = 4 then if gT h (gR h z0 3) = 31 ∧ ¬ (v1 < 0 ∨ gL h (gR h z0 3) ≤ Int32.toNatClampNeg v1) then some (.inl (some (.int (gI h (gR h z0 3) (Int32.toNatClampNeg v1)))), h) else none else none else if v2 = 3 then if gT h z0 = 4 then gc gd_P0 d 63 87 90 [.ref v0, .int v1, .int v2, .ref z0] [] (run gd_P0 d 156 [.ref z0, .int v1] h) else none else if v2 = 4 then if gT h z0 = 4 then gc gd_P0 d 63 93 96 [.ref v0, .int v1, .int v2, .ref z0] [] (run gd_P0 d 155 [.ref z0, .int v1] h) else none else if v2 = 5 then if gT h z0 = 4 then gc gd_P0 d 63 99 102 [.ref v0, .int v1, .int v2, .ref z0] [] (run gd_P0 d 161 [.ref z0, .int v1] h) else none else if v2 = 6 then if gT h v0 = 1 then if gT h (gR h v0 15) = 6 then if gT h (gR h (gR h v0 15) 4) = 31 ∧ ¬ (v1 < 0 ∨ gL h (gR h (gR h v0 15) 4) ≤ Int32.toNatClampNeg v1) then some (.inl (some (.int (gI h (gR h (gR h v0 15) 4) (Int32.toNatClampNeg v1)))), h) else none else none else none else if gT h z0 = 4 then if gT h (gR h z0 5) = 31 ∧ ¬ (v1 < 0 ∨ gL h (gR h z0 5) ≤ Int32.toNatClampNeg v1) then some (.inl (some (.int (gI h (gR h z0 5) (Int32.toNatClampNeg v1)))), h) else none else none :=
  (x63_20 ..).trans ((x63_21 ..).trans ((x63_22 ..).trans ((go_if ..).trans (ic9 ((x63_64 ..).trans ((x63_65 ..).trans ((gs_if ..).trans (ic9 ((x63_68 ..).trans ((x63_69 ..).trans ((gs_if ..).trans (ic9 ((x63_70 ..)) rfl)))) rfl)))) ((go_if ..).trans (ic9 ((x63_71 ..).trans ((x63_72 ..).trans ((gs_if ..).trans (ic9 ((x63_75 ..).trans ((x63_76 ..).trans ((gs_if ..).trans (ic9 ((x63_77 ..)) rfl)))) rfl)))) ((go_if ..).trans (ic9 ((x63_78 ..).trans ((x63_79 ..).trans ((gs_if ..).trans (ic9 ((x63_82 ..).trans ((x63_83 ..).trans ((gs_if ..).trans (ic9 ((x63_84 ..)) rfl)))) rfl)))) ((go_if ..).trans (ic9 ((x63_85 ..).trans ((x63_86 ..).trans ((x63_87 ..).trans ((gs_if ..).trans ((ia9 (by simp)).trans (ic9 rfl rfl)))))) ((go_if ..).trans (ic9 ((x63_91 ..).trans ((x63_92 ..).trans ((x63_93 ..).trans ((gs_if ..).trans ((ia9 (by simp)).trans (ic9 rfl rfl)))))) ((go_if ..).trans (ic9 ((x63_97 ..).trans ((x63_98 ..).trans ((x63_99 ..).trans ((gs_if ..).trans ((ia9 (by simp)).trans (ic9 rfl rfl)))))) ((go_if ..).trans (ic9 ((x63_111 ..).trans ((x63_112 ..).trans ((gs_if ..).trans (ic9 ((x63_115 ..).trans ((gs_if ..).trans (ic9 ((x63_118 ..).trans ((x63_119 ..).trans ((gs_if ..).trans (ic9 ((x63_120 ..)) rfl)))) rfl))) rfl)))) ((x63_121 ..).trans ((x63_122 ..).trans ((gs_if ..).trans (ic9 ((x63_125 ..).trans ((x63_126 ..).trans ((gs_if ..).trans (ic9 ((x63_127 ..)) rfl)))) rfl))))))))))))))))))))
theorem s63_90 (d : Nat) (h : gd_H) (w0 : Value) (w1 : Value) (w2 : Value) (w3 : Value) (z0 : Int32) : go gd_P0 d 63 90 [w0, w1, w2, w3] [.int z0] h =
    some (.inl (some (.int z0)), h) :=
  (x63_90 ..)
theorem s63_96 (d : Nat) (h : gd_H) (w0 : Value) (w1 : Value) (w2 : Value) (w3 : Value) (z0 : Int32) : go gd_P0 d 63 96 [w0, w1, w2, w3] [.int z0] h =
    some (.inl (some (.int z0)), h) :=
  (x63_96 ..)
theorem s63_102 (d : Nat) (h : gd_H) (w0 : Value) (w1 : Value) (w2 : Value) (w3 : Value) (z0 : Int32) : go gd_P0 d 63 102 [w0, w1, w2, w3] [.int z0] h =
    if z0 = 0 then go gd_P0 d 63 110 [.null, .null, .null, .null] [.int 0] h else go gd_P0 d 63 110 [.null, .null, .null, .null] [.int 1] h :=
  (x63_102 ..).trans ((gs_nif ..).trans (ic9 ((x63_109 ..)) ((x63_105 ..).trans ((x63_106 ..)))))
theorem s63_110 (d : Nat) (h : gd_H) (w0 : Value) (w1 : Value) (w2 : Value) (w3 : Value) (z0 : Int32) : go gd_P0 d 63 110 [w0, w1, w2, w3] [.int z0] h =
    some (.inl (some (.int z0)), h) :=
  (x63_110 ..)
theorem r63 (d : Nat) (h : gd_H) (v0 : Nat) (v1 : Int32) (v2 : Int32) : run gd_P0 (d + 1) 63 [.ref v0, .int v1, .int v2] h = go gd_P0 d 63 0 [.ref v0, .int v1, .int v2, .null] [] h := run_succ gd_P0 d 63 [.ref v0, .int v1, .int v2] h (Nat.le_of_ble_eq_true rfl)
theorem x64_0 (d : Nat) (L st : List Value) (h : gd_H) : go gd_P0 d 64 0 L st h = gs gd_P0 d 64 0 L (i_ald 0 1 L st h) := go_eq gd_P0 d 64 0 L st h
theorem x64_1 (d : Nat) (L st : List Value) (h : gd_H) : go gd_P0 d 64 1 L st h = gs gd_P0 d 64 1 L (i_ild 1 2 L st h) := go_eq gd_P0 d 64 1 L st h
theorem x64_2 (d : Nat) (L st : List Value) (h : gd_H) : go gd_P0 d 64 2 L st h = gs gd_P0 d 64 2 L (i_ald 0 3 L st h) := go_eq gd_P0 d 64 2 L st h
theorem x64_3 (d : Nat) (L st : List Value) (h : gd_H) : go gd_P0 d 64 3 L st h = gs gd_P0 d 64 3 L (i_getR 1 15 6 L st h) := go_eq gd_P0 d 64 3 L st h
theorem x64_6 (d : Nat) (L st : List Value) (h : gd_H) : go gd_P0 d 64 6 L st h = gs gd_P0 d 64 6 L (i_getI 6 7 9 L st h) := go_eq gd_P0 d 64 6 L st h
theorem x64_9 (d : Nat) (L st : List Value) (h : gd_H) : go gd_P0 d 64 9 L st h = gs gd_P0 d 64 9 L (i_cV 62 2 1 12 L st h) := go_eq gd_P0 d 64 9 L st h
theorem x64_12 (d : Nat) (L st : List Value) (h : gd_H) : go gd_P0 d 64 12 L st h = gs gd_P0 d 64 12 L (i_msk [false, false] (i_ret) L st h) := go_eq gd_P0 d 64 12 L st h
theorem s64_0 (d : Nat) (h : gd_H) (v0 : Nat) (v1 : Int32) : go gd_P0 d 64 0 [.ref v0, .int v1] [] h =
    if gT h v0 = 1 then if gT h (gR h v0 15) = 6 then if gT h v0 = 1 then gc gd_P0 d 64 9 12 [.ref v0, .int v1] [] (run gd_P0 d 62 [.ref v0, .int v1, .int (gI h (gR h v0 15) 7)] h) else none else none else none :=
  (x64_0 ..).trans ((x64_1 ..).trans ((x64_2 ..).trans ((x64_3 ..).trans ((gs_if ..).trans (ic9 ((x64_6 ..).trans ((gs_if ..).trans (ic9 ((x64_9 ..).trans ((gs_if ..).trans ((ia9 (by simp)).trans (ic9 rfl rfl)))) rfl))) rfl)))))
theorem s64_12 (d : Nat) (h : gd_H) (w0 : Value) (w1 : Value) : go gd_P0 d 64 12 [w0, w1] [] h =
    some (.inl none, h) :=
  (x64_12 ..)
theorem r64 (d : Nat) (h : gd_H) (v0 : Nat) (v1 : Int32) : run gd_P0 (d + 1) 64 [.ref v0, .int v1] h = go gd_P0 d 64 0 [.ref v0, .int v1] [] h := run_succ gd_P0 d 64 [.ref v0, .int v1] h (Nat.le_of_ble_eq_true rfl)
theorem x65_0 (d : Nat) (L st : List Value) (h : gd_H) : go gd_P0 d 65 0 L st h = gs gd_P0 d 65 0 L (i_ald 0 1 L st h) := go_eq gd_P0 d 65 0 L st h
theorem x65_1 (d : Nat) (L st : List Value) (h : gd_H) : go gd_P0 d 65 1 L st h = gs gd_P0 d 65 1 L (i_ild 1 2 L st h) := go_eq gd_P0 d 65 1 L st h
theorem x65_2 (d : Nat) (L st : List Value) (h : gd_H) : go gd_P0 d 65 2 L st h = gs gd_P0 d 65 2 L (i_cV 64 1 1 5 L st h) := go_eq gd_P0 d 65 2 L st h
theorem x65_5 (d : Nat) (L st : List Value) (h : gd_H) : go gd_P0 d 65 5 L st h = gs gd_P0 d 65 5 L (i_msk [true, true] (i_ald 0 6) L st h) := go_eq gd_P0 d 65 5 L st h
theorem x65_6 (d : Nat) (L st : List Value) (h : gd_H) : go gd_P0 d 65 6 L st h = gs gd_P0 d 65 6 L (i_getR 1 2 9 L st h) := go_eq gd_P0 d 65 6 L st h
theorem x65_9 (d : Nat) (L st : List Value) (h : gd_H) : go gd_P0 d 65 9 L st h = gs gd_P0 d 65 9 L (i_cV 145 0 3 12 L st h) := go_eq gd_P0 d 65 9 L st h
theorem x65_12 (d : Nat) (L st : List Value) (h : gd_H) : go gd_P0 d 65 12 L st h = gs gd_P0 d 65 12 L (i_msk [false, true] (i_ild 1 13) L st h) := go_eq gd_P0 d 65 12 L st h
theorem x65_13 (d : Nat) (L st : List Value) (h : gd_H) : go gd_P0 d 65 13 L st h = gs gd_P0 d 65 13 L (i_cV 153 1 4 16 L st h) := go_eq gd_P0 d 65 13 L st h
theorem x65_16 (d : Nat) (L st : List Value) (h : gd_H) : go gd_P0 d 65 16 L st h = gs gd_P0 d 65 16 L (i_msk [false, false] (i_iret) L st h) := go_eq gd_P0 d 65 16 L st h
theorem s65_0 (d : Nat) (h : gd_H) (v0 : Nat) (v1 : Int32) : go gd_P0 d 65 0 [.ref v0, .int v1] [] h =
    if gT h v0 = 1 then gc gd_P0 d 65 2 5 [.ref v0, .int v1] [] (run gd_P0 d 64 [.ref v0, .int v1] h) else none :=
  (x65_0 ..).trans ((x65_1 ..).trans ((x65_2 ..).trans ((gs_if ..).trans ((ia9 (by simp)).trans (ic9 rfl rfl)))))
theorem s65_5 (d : Nat) (h : gd_H) (v0 : Nat) (v1 : Int32) : go gd_P0 d 65 5 [.ref v0, .int v1] [] h =
    if gT h v0 = 1 then if gT h (gR h v0 2) = 3 then gc gd_P0 d 65 9 12 [.ref v0, .int v1] [] (run gd_P0 d 145 [.ref (gR h v0 2)] h) else none else none :=
  (x65_5 ..).trans ((x65_6 ..).trans ((gs_if ..).trans (ic9 ((x65_9 ..).trans ((gs_if ..).trans ((ia9 (by simp)).trans (ic9 rfl rfl)))) rfl)))
theorem s65_12 (d : Nat) (h : gd_H) (w0 : Value) (v1 : Int32) (z0 : Nat) : go gd_P0 d 65 12 [w0, .int v1] [.ref z0] h =
    if gT h z0 = 4 then gc gd_P0 d 65 13 16 [.null, .int v1] [] (run gd_P0 d 153 [.ref z0, .int v1] h) else none :=
  (x65_12 ..).trans ((x65_13 ..).trans ((gs_if ..).trans ((ia9 (by simp)).trans (ic9 rfl rfl))))
theorem s65_16 (d : Nat) (h : gd_H) (w0 : Value) (w1 : Value) (z0 : Int32) : go gd_P0 d 65 16 [w0, w1] [.int z0] h =
    some (.inl (some (.int z0)), h) :=
  (x65_16 ..)
theorem r65 (d : Nat) (h : gd_H) (v0 : Nat) (v1 : Int32) : run gd_P0 (d + 1) 65 [.ref v0, .int v1] h = go gd_P0 d 65 0 [.ref v0, .int v1] [] h := run_succ gd_P0 d 65 [.ref v0, .int v1] h (Nat.le_of_ble_eq_true rfl)
theorem x66_0 (d : Nat) (L st : List Value) (h : gd_H) : go gd_P0 d 66 0 L st h = gs gd_P0 d 66 0 L (i_ald 0 1 L st h) := go_eq gd_P0 d 66 0 L st h
theorem x66_1 (d : Nat) (L st : List Value) (h : gd_H) : go gd_P0 d 66 1 L st h = gs gd_P0 d 66 1 L (i_ild 1 2 L st h) := go_eq gd_P0 d 66 1 L st h
theorem x66_2 (d : Nat) (L st : List Value) (h : gd_H) : go gd_P0 d 66 2 L st h = gs gd_P0 d 66 2 L (i_psh (.int 0) 3 L st h) := go_eq gd_P0 d 66 2 L st h
theorem x66_3 (d : Nat) (L st : List Value) (h : gd_H) : go gd_P0 d 66 3 L st h = gs gd_P0 d 66 3 L (i_psh (.int 9) 5 L st h) := go_eq gd_P0 d 66 3 L st h
theorem x66_5 (d : Nat) (L st : List Value) (h : gd_H) : go gd_P0 d 66 5 L st h = gs gd_P0 d 66 5 L (i_cV 53 3 1 8 L st h) := go_eq gd_P0 d 66 5 L st h
theorem x66_8 (d : Nat) (L st : List Value) (h : gd_H) : go gd_P0 d 66 8 L st h = gs gd_P0 d 66 8 L (i_msk [true, true, true, true, true, true, true, true, true] (i_ald 0 9) L st h) := go_eq gd_P0 d 66 8 L st h
theorem x66_9 (d : Nat) (L st : List Value) (h : gd_H) : go gd_P0 d 66 9 L st h = gs gd_P0 d 66 9 L (i_ild 2 10 L st h) := go_eq gd_P0 d 66 9 L st h
theorem x66_10 (d : Nat) (L st : List Value) (h : gd_H) : go gd_P0 d 66 10 L st h = gs gd_P0 d 66 10 L (i_psh (.int 1) 11 L st h) := go_eq gd_P0 d 66 10 L st h
theorem x66_11 (d : Nat) (L st : List Value) (h : gd_H) : go gd_P0 d 66 11 L st h = gs gd_P0 d 66 11 L (i_psh (.int 999) 14 L st h) := go_eq gd_P0 d 66 11 L st h
theorem x66_14 (d : Nat) (L st : List Value) (h : gd_H) : go gd_P0 d 66 14 L st h = gs gd_P0 d 66 14 L (i_cV 53 3 1 17 L st h) := go_eq gd_P0 d 66 14 L st h
theorem x66_17 (d : Nat) (L st : List Value) (h : gd_H) : go gd_P0 d 66 17 L st h = gs gd_P0 d 66 17 L (i_msk [true, true, true, true, true, true, true, true, true] (i_ald 0 18) L st h) := go_eq gd_P0 d 66 17 L st h
theorem x66_18 (d : Nat) (L st : List Value) (h : gd_H) : go gd_P0 d 66 18 L st h = gs gd_P0 d 66 18 L (i_ild 3 19 L st h) := go_eq gd_P0 d 66 18 L st h
theorem x66_19 (d : Nat) (L st : List Value) (h : gd_H) : go gd_P0 d 66 19 L st h = gs gd_P0 d 66 19 L (i_psh (.int 0) 20 L st h) := go_eq gd_P0 d 66 19 L st h
theorem x66_20 (d : Nat) (L st : List Value) (h : gd_H) : go gd_P0 d 66 20 L st h = gs gd_P0 d 66 20 L (i_psh (.int 6) 22 L st h) := go_eq gd_P0 d 66 20 L st h
theorem x66_22 (d : Nat) (L st : List Value) (h : gd_H) : go gd_P0 d 66 22 L st h = gs gd_P0 d 66 22 L (i_cV 53 3 1 25 L st h) := go_eq gd_P0 d 66 22 L st h
theorem x66_25 (d : Nat) (L st : List Value) (h : gd_H) : go gd_P0 d 66 25 L st h = gs gd_P0 d 66 25 L (i_msk [true, true, true, true, true, true, true, true, true] (i_ald 0 26) L st h) := go_eq gd_P0 d 66 25 L st h
theorem x66_26 (d : Nat) (L st : List Value) (h : gd_H) : go gd_P0 d 66 26 L st h = gs gd_P0 d 66 26 L (i_ild 4 28 L st h) := go_eq gd_P0 d 66 26 L st h
theorem x66_28 (d : Nat) (L st : List Value) (h : gd_H) : go gd_P0 d 66 28 L st h = gs gd_P0 d 66 28 L (i_psh (.int 0) 29 L st h) := go_eq gd_P0 d 66 28 L st h
theorem x66_29 (d : Nat) (L st : List Value) (h : gd_H) : go gd_P0 d 66 29 L st h = gs gd_P0 d 66 29 L (i_psh (.int 9) 31 L st h) := go_eq gd_P0 d 66 29 L st h
theorem x66_31 (d : Nat) (L st : List Value) (h : gd_H) : go gd_P0 d 66 31 L st h = gs gd_P0 d 66 31 L (i_cV 53 3 1 34 L st h) := go_eq gd_P0 d 66 31 L st h
theorem x66_34 (d : Nat) (L st : List Value) (h : gd_H) : go gd_P0 d 66 34 L st h = gs gd_P0 d 66 34 L (i_msk [true, true, true, true, true, true, true, true, true] (i_ald 0 35) L st h) := go_eq gd_P0 d 66 34 L st h
theorem x66_35 (d : Nat) (L st : List Value) (h : gd_H) : go gd_P0 d 66 35 L st h = gs gd_P0 d 66 35 L (i_ild 5 37 L st h) := go_eq gd_P0 d 66 35 L st h
theorem x66_37 (d : Nat) (L st : List Value) (h : gd_H) : go gd_P0 d 66 37 L st h = gs gd_P0 d 66 37 L (i_psh (.int (-999)) 40 L st h) := go_eq gd_P0 d 66 37 L st h
theorem x66_40 (d : Nat) (L st : List Value) (h : gd_H) : go gd_P0 d 66 40 L st h = gs gd_P0 d 66 40 L (i_psh (.int 999) 43 L st h) := go_eq gd_P0 d 66 40 L st h
theorem x66_43 (d : Nat) (L st : List Value) (h : gd_H) : go gd_P0 d 66 43 L st h = gs gd_P0 d 66 43 L (i_cV 53 3 1 46 L st h) := go_eq gd_P0 d 66 43 L st h
theorem x66_46 (d : Nat) (L st : List Value) (h : gd_H) : go gd_P0 d 66 46 L st h = gs gd_P0 d 66 46 L (i_msk [true, true, true, true, true, true, true, true, true] (i_ald 0 47) L st h) := go_eq gd_P0 d 66 46 L st h
theorem x66_47 (d : Nat) (L st : List Value) (h : gd_H) : go gd_P0 d 66 47 L st h = gs gd_P0 d 66 47 L (i_ild 6 49 L st h) := go_eq gd_P0 d 66 47 L st h
theorem x66_49 (d : Nat) (L st : List Value) (h : gd_H) : go gd_P0 d 66 49 L st h = gs gd_P0 d 66 49 L (i_psh (.int 0) 50 L st h) := go_eq gd_P0 d 66 49 L st h
theorem x66_50 (d : Nat) (L st : List Value) (h : gd_H) : go gd_P0 d 66 50 L st h = gs gd_P0 d 66 50 L (i_psh (.int 11) 52 L st h) := go_eq gd_P0 d 66 50 L st h
theorem x66_52 (d : Nat) (L st : List Value) (h : gd_H) : go gd_P0 d 66 52 L st h = gs gd_P0 d 66 52 L (i_cV 53 3 1 55 L st h) := go_eq gd_P0 d 66 52 L st h
theorem x66_55 (d : Nat) (L st : List Value) (h : gd_H) : go gd_P0 d 66 55 L st h = gs gd_P0 d 66 55 L (i_msk [true, true, true, true, true, true, true, true, true] (i_ald 0 56) L st h) := go_eq gd_P0 d 66 55 L st h
theorem x66_56 (d : Nat) (L st : List Value) (h : gd_H) : go gd_P0 d 66 56 L st h = gs gd_P0 d 66 56 L (i_ild 7 58 L st h) := go_eq gd_P0 d 66 56 L st h
theorem x66_58 (d : Nat) (L st : List Value) (h : gd_H) : go gd_P0 d 66 58 L st h = gs gd_P0 d 66 58 L (i_psh (.int 0) 59 L st h) := go_eq gd_P0 d 66 58 L st h
theorem x66_59 (d : Nat) (L st : List Value) (h : gd_H) : go gd_P0 d 66 59 L st h = gs gd_P0 d 66 59 L (i_psh (.int 5994) 62 L st h) := go_eq gd_P0 d 66 59 L st h
theorem x66_62 (d : Nat) (L st : List Value) (h : gd_H) : go gd_P0 d 66 62 L st h = gs gd_P0 d 66 62 L (i_cV 53 3 1 65 L st h) := go_eq gd_P0 d 66 62 L st h
theorem x66_65 (d : Nat) (L st : List Value) (h : gd_H) : go gd_P0 d 66 65 L st h = gs gd_P0 d 66 65 L (i_msk [true, true, true, true, true, true, true, true, true] (i_ald 0 66) L st h) := go_eq gd_P0 d 66 65 L st h
theorem x66_66 (d : Nat) (L st : List Value) (h : gd_H) : go gd_P0 d 66 66 L st h = gs gd_P0 d 66 66 L (i_ild 8 68 L st h) := go_eq gd_P0 d 66 66 L st h
theorem x66_68 (d : Nat) (L st : List Value) (h : gd_H) : go gd_P0 d 66 68 L st h = gs gd_P0 d 66 68 L (i_psh (.int 0) 69 L st h) := go_eq gd_P0 d 66 68 L st h
theorem x66_69 (d : Nat) (L st : List Value) (h : gd_H) : go gd_P0 d 66 69 L st h = gs gd_P0 d 66 69 L (i_psh (.int 6) 71 L st h) := go_eq gd_P0 d 66 69 L st h
theorem x66_71 (d : Nat) (L st : List Value) (h : gd_H) : go gd_P0 d 66 71 L st h = gs gd_P0 d 66 71 L (i_cV 53 3 1 74 L st h) := go_eq gd_P0 d 66 71 L st h
theorem x66_74 (d : Nat) (L st : List Value) (h : gd_H) : go gd_P0 d 66 74 L st h = gs gd_P0 d 66 74 L (i_msk [true, true, true, true, true, true, true, true, true] (i_ald 0 75) L st h) := go_eq gd_P0 d 66 74 L st h
theorem x66_75 (d : Nat) (L st : List Value) (h : gd_H) : go gd_P0 d 66 75 L st h = gs gd_P0 d 66 75 L (i_getR 1 6 78 L st h) := go_eq gd_P0 d 66 75 L st h
theorem x66_78 (d : Nat) (L st : List Value) (h : gd_H) : go gd_P0 d 66 78 L st h = gs gd_P0 d 66 78 L (i_ild 1 79 L st h) := go_eq gd_P0 d 66 78 L st h
theorem x66_79 (d : Nat) (L st : List Value) (h : gd_H) : go gd_P0 d 66 79 L st h = gs gd_P0 d 66 79 L (i_putI 5 0 82 L st h) := go_eq gd_P0 d 66 79 L st h
theorem x66_82 (d : Nat) (L st : List Value) (h : gd_H) : go gd_P0 d 66 82 L st h = gs gd_P0 d 66 82 L (i_ald 0 83 L st h) := go_eq gd_P0 d 66 82 L st h
theorem x66_83 (d : Nat) (L st : List Value) (h : gd_H) : go gd_P0 d 66 83 L st h = gs gd_P0 d 66 83 L (i_getR 1 6 86 L st h) := go_eq gd_P0 d 66 83 L st h
theorem x66_86 (d : Nat) (L st : List Value) (h : gd_H) : go gd_P0 d 66 86 L st h = gs gd_P0 d 66 86 L (i_ild 2 87 L st h) := go_eq gd_P0 d 66 86 L st h
theorem x66_87 (d : Nat) (L st : List Value) (h : gd_H) : go gd_P0 d 66 87 L st h = gs gd_P0 d 66 87 L (i_putI 5 1 90 L st h) := go_eq gd_P0 d 66 87 L st h
theorem x66_90 (d : Nat) (L st : List Value) (h : gd_H) : go gd_P0 d 66 90 L st h = gs gd_P0 d 66 90 L (i_ald 0 91 L st h) := go_eq gd_P0 d 66 90 L st h
theorem x66_91 (d : Nat) (L st : List Value) (h : gd_H) : go gd_P0 d 66 91 L st h = gs gd_P0 d 66 91 L (i_getR 1 6 94 L st h) := go_eq gd_P0 d 66 91 L st h
theorem x66_94 (d : Nat) (L st : List Value) (h : gd_H) : go gd_P0 d 66 94 L st h = gs gd_P0 d 66 94 L (i_ild 3 95 L st h) := go_eq gd_P0 d 66 94 L st h
theorem x66_95 (d : Nat) (L st : List Value) (h : gd_H) : go gd_P0 d 66 95 L st h = gs gd_P0 d 66 95 L (i_putI 5 2 98 L st h) := go_eq gd_P0 d 66 95 L st h
theorem x66_98 (d : Nat) (L st : List Value) (h : gd_H) : go gd_P0 d 66 98 L st h = gs gd_P0 d 66 98 L (i_ald 0 99 L st h) := go_eq gd_P0 d 66 98 L st h
theorem x66_99 (d : Nat) (L st : List Value) (h : gd_H) : go gd_P0 d 66 99 L st h = gs gd_P0 d 66 99 L (i_getR 1 6 102 L st h) := go_eq gd_P0 d 66 99 L st h
theorem x66_102 (d : Nat) (L st : List Value) (h : gd_H) : go gd_P0 d 66 102 L st h = gs gd_P0 d 66 102 L (i_ild 4 104 L st h) := go_eq gd_P0 d 66 102 L st h
theorem x66_104 (d : Nat) (L st : List Value) (h : gd_H) : go gd_P0 d 66 104 L st h = gs gd_P0 d 66 104 L (i_putI 5 3 107 L st h) := go_eq gd_P0 d 66 104 L st h
theorem x66_107 (d : Nat) (L st : List Value) (h : gd_H) : go gd_P0 d 66 107 L st h = gs gd_P0 d 66 107 L (i_ald 0 108 L st h) := go_eq gd_P0 d 66 107 L st h
theorem x66_108 (d : Nat) (L st : List Value) (h : gd_H) : go gd_P0 d 66 108 L st h = gs gd_P0 d 66 108 L (i_getR 1 6 111 L st h) := go_eq gd_P0 d 66 108 L st h
theorem x66_111 (d : Nat) (L st : List Value) (h : gd_H) : go gd_P0 d 66 111 L st h = gs gd_P0 d 66 111 L (i_ild 5 113 L st h) := go_eq gd_P0 d 66 111 L st h
theorem x66_113 (d : Nat) (L st : List Value) (h : gd_H) : go gd_P0 d 66 113 L st h = gs gd_P0 d 66 113 L (i_putI 5 4 116 L st h) := go_eq gd_P0 d 66 113 L st h
theorem x66_116 (d : Nat) (L st : List Value) (h : gd_H) : go gd_P0 d 66 116 L st h = gs gd_P0 d 66 116 L (i_ald 0 117 L st h) := go_eq gd_P0 d 66 116 L st h
theorem x66_117 (d : Nat) (L st : List Value) (h : gd_H) : go gd_P0 d 66 117 L st h = gs gd_P0 d 66 117 L (i_getR 1 6 120 L st h) := go_eq gd_P0 d 66 117 L st h
theorem x66_120 (d : Nat) (L st : List Value) (h : gd_H) : go gd_P0 d 66 120 L st h = gs gd_P0 d 66 120 L (i_ild 6 122 L st h) := go_eq gd_P0 d 66 120 L st h
theorem x66_122 (d : Nat) (L st : List Value) (h : gd_H) : go gd_P0 d 66 122 L st h = gs gd_P0 d 66 122 L (i_putI 5 5 125 L st h) := go_eq gd_P0 d 66 122 L st h
theorem x66_125 (d : Nat) (L st : List Value) (h : gd_H) : go gd_P0 d 66 125 L st h = gs gd_P0 d 66 125 L (i_ald 0 126 L st h) := go_eq gd_P0 d 66 125 L st h
theorem x66_126 (d : Nat) (L st : List Value) (h : gd_H) : go gd_P0 d 66 126 L st h = gs gd_P0 d 66 126 L (i_getR 1 6 129 L st h) := go_eq gd_P0 d 66 126 L st h
theorem x66_129 (d : Nat) (L st : List Value) (h : gd_H) : go gd_P0 d 66 129 L st h = gs gd_P0 d 66 129 L (i_ild 7 131 L st h) := go_eq gd_P0 d 66 129 L st h
theorem x66_131 (d : Nat) (L st : List Value) (h : gd_H) : go gd_P0 d 66 131 L st h = gs gd_P0 d 66 131 L (i_putI 5 6 134 L st h) := go_eq gd_P0 d 66 131 L st h
theorem x66_134 (d : Nat) (L st : List Value) (h : gd_H) : go gd_P0 d 66 134 L st h = gs gd_P0 d 66 134 L (i_ald 0 135 L st h) := go_eq gd_P0 d 66 134 L st h
theorem x66_135 (d : Nat) (L st : List Value) (h : gd_H) : go gd_P0 d 66 135 L st h = gs gd_P0 d 66 135 L (i_getR 1 6 138 L st h) := go_eq gd_P0 d 66 135 L st h
theorem x66_138 (d : Nat) (L st : List Value) (h : gd_H) : go gd_P0 d 66 138 L st h = gs gd_P0 d 66 138 L (i_ild 8 140 L st h) := go_eq gd_P0 d 66 138 L st h
theorem x66_140 (d : Nat) (L st : List Value) (h : gd_H) : go gd_P0 d 66 140 L st h = gs gd_P0 d 66 140 L (i_putI 5 7 143 L st h) := go_eq gd_P0 d 66 140 L st h
theorem x66_143 (d : Nat) (L st : List Value) (h : gd_H) : go gd_P0 d 66 143 L st h = gs gd_P0 d 66 143 L (i_ald 0 144 L st h) := go_eq gd_P0 d 66 143 L st h
theorem x66_144 (d : Nat) (L st : List Value) (h : gd_H) : go gd_P0 d 66 144 L st h = gs gd_P0 d 66 144 L (i_getR 1 1 147 L st h) := go_eq gd_P0 d 66 144 L st h
theorem x66_147 (d : Nat) (L st : List Value) (h : gd_H) : go gd_P0 d 66 147 L st h = gs gd_P0 d 66 147 L (i_ald 0 148 L st h) := go_eq gd_P0 d 66 147 L st h
theorem x66_148 (d : Nat) (L st : List Value) (h : gd_H) : go gd_P0 d 66 148 L st h = gs gd_P0 d 66 148 L (i_getR 1 6 151 L st h) := go_eq gd_P0 d 66 148 L st h
theorem x66_151 (d : Nat) (L st : List Value) (h : gd_H) : go gd_P0 d 66 151 L st h = gs gd_P0 d 66 151 L (i_cV 135 1 2 154 L st h) := go_eq gd_P0 d 66 151 L st h
theorem x66_154 (d : Nat) (L st : List Value) (h : gd_H) : go gd_P0 d 66 154 L st h = gs gd_P0 d 66 154 L (i_msk [false, false, false, false, false, false, false, false, false] (i_iret) L st h) := go_eq gd_P0 d 66 154 L st h
theorem s66_0 (d : Nat) (h : gd_H) (v0 : Nat) (v1 : Int32) (v2 : Int32) (v3 : Int32) (v4 : Int32) (v5 : Int32) (v6 : Int32) (v7 : Int32) (v8 : Int32) : go gd_P0 d 66 0 [.ref v0, .int v1, .int v2, .int v3, .int v4, .int v5, .int v6, .int v7, .int v8] [] h =
    if gT h v0 = 1 then gc gd_P0 d 66 5 8 [.ref v0, .int v1, .int v2, .int v3, .int v4, .int v5, .int v6, .int v7, .int v8] [] (run gd_P0 d 53 [.ref v0, .int v1, .int 0, .int 9] h) else none :=
  (x66_0 ..).trans ((x66_1 ..).trans ((x66_2 ..).trans ((x66_3 ..).trans ((x66_5 ..).trans ((gs_if ..).trans ((ia9 (by simp)).trans (ic9 rfl rfl)))))))
theorem s66_8 (d : Nat) (h : gd_H) (v0 : Nat) (v1 : Int32) (v2 : Int32) (v3 : Int32) (v4 : Int32) (v5 : Int32) (v6 : Int32) (v7 : Int32) (v8 : Int32) : go gd_P0 d 66 8 [.ref v0, .int v1, .int v2, .int v3, .int v4, .int v5, .int v6, .int v7, .int v8] [] h =
    if gT h v0 = 1 then gc gd_P0 d 66 14 17 [.ref v0, .int v1, .int v2, .int v3, .int v4, .int v5, .int v6, .int v7, .int v8] [] (run gd_P0 d 53 [.ref v0, .int v2, .int 1, .int 999] h) else none :=
  (x66_8 ..).trans ((x66_9 ..).trans ((x66_10 ..).trans ((x66_11 ..).trans ((x66_14 ..).trans ((gs_if ..).trans ((ia9 (by simp)).trans (ic9 rfl rfl)))))))
theorem s66_17 (d : Nat) (h : gd_H) (v0 : Nat) (v1 : Int32) (v2 : Int32) (v3 : Int32) (v4 : Int32) (v5 : Int32) (v6 : Int32) (v7 : Int32) (v8 : Int32) : go gd_P0 d 66 17 [.ref v0, .int v1, .int v2, .int v3, .int v4, .int v5, .int v6, .int v7, .int v8] [] h =
    if gT h v0 = 1 then gc gd_P0 d 66 22 25 [.ref v0, .int v1, .int v2, .int v3, .int v4, .int v5, .int v6, .int v7, .int v8] [] (run gd_P0 d 53 [.ref v0, .int v3, .int 0, .int 6] h) else none :=
  (x66_17 ..).trans ((x66_18 ..).trans ((x66_19 ..).trans ((x66_20 ..).trans ((x66_22 ..).trans ((gs_if ..).trans ((ia9 (by simp)).trans (ic9 rfl rfl)))))))
theorem s66_25 (d : Nat) (h : gd_H) (v0 : Nat) (v1 : Int32) (v2 : Int32) (v3 : Int32) (v4 : Int32) (v5 : Int32) (v6 : Int32) (v7 : Int32) (v8 : Int32) : go gd_P0 d 66 25 [.ref v0, .int v1, .int v2, .int v3, .int v4, .int v5, .int v6, .int v7, .int v8] [] h =
    if gT h v0 = 1 then gc gd_P0 d 66 31 34 [.ref v0, .int v1, .int v2, .int v3, .int v4, .int v5, .int v6, .int v7, .int v8] [] (run gd_P0 d 53 [.ref v0, .int v4, .int 0, .int 9] h) else none :=
  (x66_25 ..).trans ((x66_26 ..).trans ((x66_28 ..).trans ((x66_29 ..).trans ((x66_31 ..).trans ((gs_if ..).trans ((ia9 (by simp)).trans (ic9 rfl rfl)))))))
theorem s66_34 (d : Nat) (h : gd_H) (v0 : Nat) (v1 : Int32) (v2 : Int32) (v3 : Int32) (v4 : Int32) (v5 : Int32) (v6 : Int32) (v7 : Int32) (v8 : Int32) : go gd_P0 d 66 34 [.ref v0, .int v1, .int v2, .int v3, .int v4, .int v5, .int v6, .int v7, .int v8] [] h =
    if gT h v0 = 1 then gc gd_P0 d 66 43 46 [.ref v0, .int v1, .int v2, .int v3, .int v4, .int v5, .int v6, .int v7, .int v8] [] (run gd_P0 d 53 [.ref v0, .int v5, .int (-999), .int 999] h) else none :=
  (x66_34 ..).trans ((x66_35 ..).trans ((x66_37 ..).trans ((x66_40 ..).trans ((x66_43 ..).trans ((gs_if ..).trans ((ia9 (by simp)).trans (ic9 rfl rfl)))))))
theorem s66_46 (d : Nat) (h : gd_H) (v0 : Nat) (v1 : Int32) (v2 : Int32) (v3 : Int32) (v4 : Int32) (v5 : Int32) (v6 : Int32) (v7 : Int32) (v8 : Int32) : go gd_P0 d 66 46 [.ref v0, .int v1, .int v2, .int v3, .int v4, .int v5, .int v6, .int v7, .int v8] [] h =
    if gT h v0 = 1 then gc gd_P0 d 66 52 55 [.ref v0, .int v1, .int v2, .int v3, .int v4, .int v5, .int v6, .int v7, .int v8] [] (run gd_P0 d 53 [.ref v0, .int v6, .int 0, .int 11] h) else none :=
  (x66_46 ..).trans ((x66_47 ..).trans ((x66_49 ..).trans ((x66_50 ..).trans ((x66_52 ..).trans ((gs_if ..).trans ((ia9 (by simp)).trans (ic9 rfl rfl)))))))
theorem s66_55 (d : Nat) (h : gd_H) (v0 : Nat) (v1 : Int32) (v2 : Int32) (v3 : Int32) (v4 : Int32) (v5 : Int32) (v6 : Int32) (v7 : Int32) (v8 : Int32) : go gd_P0 d 66 55 [.ref v0, .int v1, .int v2, .int v3, .int v4, .int v5, .int v6, .int v7, .int v8] [] h =
    if gT h v0 = 1 then gc gd_P0 d 66 62 65 [.ref v0, .int v1, .int v2, .int v3, .int v4, .int v5, .int v6, .int v7, .int v8] [] (run gd_P0 d 53 [.ref v0, .int v7, .int 0, .int 5994] h) else none :=
  (x66_55 ..).trans ((x66_56 ..).trans ((x66_58 ..).trans ((x66_59 ..).trans ((x66_62 ..).trans ((gs_if ..).trans ((ia9 (by simp)).trans (ic9 rfl rfl)))))))
theorem s66_65 (d : Nat) (h : gd_H) (v0 : Nat) (v1 : Int32) (v2 : Int32) (v3 : Int32) (v4 : Int32) (v5 : Int32) (v6 : Int32) (v7 : Int32) (v8 : Int32) : go gd_P0 d 66 65 [.ref v0, .int v1, .int v2, .int v3, .int v4, .int v5, .int v6, .int v7, .int v8] [] h =
    if gT h v0 = 1 then gc gd_P0 d 66 71 74 [.ref v0, .int v1, .int v2, .int v3, .int v4, .int v5, .int v6, .int v7, .int v8] [] (run gd_P0 d 53 [.ref v0, .int v8, .int 0, .int 6] h) else none :=
  (x66_65 ..).trans ((x66_66 ..).trans ((x66_68 ..).trans ((x66_69 ..).trans ((x66_71 ..).trans ((gs_if ..).trans ((ia9 (by simp)).trans (ic9 rfl rfl)))))))
theorem s66_74 (d : Nat) (h : gd_H) (v0 : Nat) (v1 : Int32) (v2 : Int32) (v3 : Int32) (v4 : Int32) (v5 : Int32) (v6 : Int32) (v7 : Int32) (v8 : Int32) : go gd_P0 d 66 74 [.ref v0, .int v1, .int v2, .int v3, .int v4, .int v5, .int v6, .int v7, .int v8] [] h =
    if gT h v0 = 1 then if gT h (gR h v0 6) = 5 then if gT h v0 = 1 then if gT h (gR h v0 6) = 5 then if gT h v0 = 1 then if gT h (gR h v0 6) = 5 then if gT h v0 = 1 then if gT h (gR h v0 6) = 5 then if gT h v0 = 1 then if gT h (gR h v0 6) = 5 then if gT h v0 = 1 then if gT h (gR h v0 6) = 5 then if gT h v0 = 1 then if gT h (gR h v0 6) = 5 then if gT h v0 = 1 then if gT h (gR h v0 6) = 5 then if gT h v0 = 1 then if gT h v0 = 1 then if gT h (gR h v0 1) = 2 then gc gd_P0 d 66 151 154 [.ref v0, .int v1, .int v2, .int v3, .int v4, .int v5, .int v6, .int v7, .int v8] [] (run gd_P0 d 135 [.ref (gR h v0 1), .ref (gR h v0 6)] (wI h (up1 (up1 (up1 (up1 (up1 (up1 (up1 (up1 (gI h) (gR h v0 6) 0 v1) (gR h v0 6) 1 v2) (gR h v0 6) 2 v3) (gR h v0 6) 3 v4) (gR h v0 6) 4 v5) (gR h v0 6) 5 v6) (gR h v0 6) 6 v7) (gR h v0 6) 7 v8))) else none else none else none else none else none else none else none else none else none else none else none else none else none else none else none else none else none else none else none :=
  (x66_74 ..).trans ((x66_75 ..).trans ((gs_if ..).trans (ic9 ((x66_78 ..).trans ((x66_79 ..).trans ((gs_if ..).trans (ic9 ((x66_82 ..).trans ((x66_83 ..).trans ((gs_if ..).trans (ic9 ((x66_86 ..).trans ((x66_87 ..).trans ((gs_if ..).trans (ic9 ((x66_90 ..).trans ((x66_91 ..).trans ((gs_if ..).trans (ic9 ((x66_94 ..).trans ((x66_95 ..).trans ((gs_if ..).trans (ic9 ((x66_98 ..).trans ((x66_99 ..).trans ((gs_if ..).trans (ic9 ((x66_102 ..).trans ((x66_104 ..).trans ((gs_if ..).trans (ic9 ((x66_107 ..).trans ((x66_108 ..).trans ((gs_if ..).trans (ic9 ((x66_111 ..).trans ((x66_113 ..).trans ((gs_if ..).trans (ic9 ((x66_116 ..).trans ((x66_117 ..).trans ((gs_if ..).trans (ic9 ((x66_120 ..).trans ((x66_122 ..).trans ((gs_if ..).trans (ic9 ((x66_125 ..).trans ((x66_126 ..).trans ((gs_if ..).trans (ic9 ((x66_129 ..).trans ((x66_131 ..).trans ((gs_if ..).trans (ic9 ((x66_134 ..).trans ((x66_135 ..).trans ((gs_if ..).trans (ic9 ((x66_138 ..).trans ((x66_140 ..).trans ((gs_if ..).trans (ic9 ((x66_143 ..).trans ((x66_144 ..).trans ((gs_if ..).trans (ic9 ((x66_147 ..).trans ((x66_148 ..).trans ((gs_if ..).trans (ic9 ((x66_151 ..).trans ((gs_if ..).trans ((ia9 (by simp)).trans (ic9 rfl rfl)))) rfl)))) rfl)))) rfl)))) rfl)))) rfl)))) rfl)))) rfl)))) rfl)))) rfl)))) rfl)))) rfl)))) rfl)))) rfl)))) rfl)))) rfl)))) rfl)))) rfl)))) rfl)))
theorem s66_154 (d : Nat) (h : gd_H) (w0 : Value) (w1 : Value) (w2 : Value) (w3 : Value) (w4 : Value) (w5 : Value) (w6 : Value) (w7 : Value) (w8 : Value) (z0 : Int32) : go gd_P0 d 66 154 [w0, w1, w2, w3, w4, w5, w6, w7, w8] [.int z0] h =
    some (.inl (some (.int z0)), h) :=
  (x66_154 ..)
theorem r66 (d : Nat) (h : gd_H) (v0 : Nat) (v1 : Int32) (v2 : Int32) (v3 : Int32) (v4 : Int32) (v5 : Int32) (v6 : Int32) (v7 : Int32) (v8 : Int32) : run gd_P0 (d + 1) 66 [.ref v0, .int v1, .int v2, .int v3, .int v4, .int v5, .int v6, .int v7, .int v8] h = go gd_P0 d 66 0 [.ref v0, .int v1, .int v2, .int v3, .int v4, .int v5, .int v6, .int v7, .int v8] [] h := run_succ gd_P0 d 66 [.ref v0, .int v1, .int v2, .int v3, .int v4, .int v5, .int v6, .int v7, .int v8] h (Nat.le_of_ble_eq_true rfl)
theorem x67_0 (d : Nat) (L st : List Value) (h : gd_H) : go gd_P0 d 67 0 L st h = gs gd_P0 d 67 0 L (i_ald 0 1 L st h) := go_eq gd_P0 d 67 0 L st h
theorem x67_1 (d : Nat) (L st : List Value) (h : gd_H) : go gd_P0 d 67 1 L st h = gs gd_P0 d 67 1 L (i_ild 1 2 L st h) := go_eq gd_P0 d 67 1 L st h
theorem x67_2 (d : Nat) (L st : List Value) (h : gd_H) : go gd_P0 d 67 2 L st h = gs gd_P0 d 67 2 L (i_psh (.int 0) 3 L st h) := go_eq gd_P0 d 67 2 L st h
theorem x67_3 (d : Nat) (L st : List Value) (h : gd_H) : go gd_P0 d 67 3 L st h = gs gd_P0 d 67 3 L (i_psh (.int 99) 5 L st h) := go_eq gd_P0 d 67 3 L st h
theorem x67_5 (d : Nat) (L st : List Value) (h : gd_H) : go gd_P0 d 67 5 L st h = gs gd_P0 d 67 5 L (i_cV 53 3 1 8 L st h) := go_eq gd_P0 d 67 5 L st h
theorem x67_8 (d : Nat) (L st : List Value) (h : gd_H) : go gd_P0 d 67 8 L st h = gs gd_P0 d 67 8 L (i_msk [true, true, true, false] (i_ald 0 9) L st h) := go_eq gd_P0 d 67 8 L st h
theorem x67_9 (d : Nat) (L st : List Value) (h : gd_H) : go gd_P0 d 67 9 L st h = gs gd_P0 d 67 9 L (i_ild 2 10 L st h) := go_eq gd_P0 d 67 9 L st h
theorem x67_10 (d : Nat) (L st : List Value) (h : gd_H) : go gd_P0 d 67 10 L st h = gs gd_P0 d 67 10 L (i_psh (.int 0) 11 L st h) := go_eq gd_P0 d 67 10 L st h
theorem x67_11 (d : Nat) (L st : List Value) (h : gd_H) : go gd_P0 d 67 11 L st h = gs gd_P0 d 67 11 L (i_psh (.int 2) 12 L st h) := go_eq gd_P0 d 67 11 L st h
theorem x67_12 (d : Nat) (L st : List Value) (h : gd_H) : go gd_P0 d 67 12 L st h = gs gd_P0 d 67 12 L (i_cV 53 3 1 15 L st h) := go_eq gd_P0 d 67 12 L st h
theorem x67_15 (d : Nat) (L st : List Value) (h : gd_H) : go gd_P0 d 67 15 L st h = gs gd_P0 d 67 15 L (i_msk [true, true, true, false] (i_ald 0 16) L st h) := go_eq gd_P0 d 67 15 L st h
theorem x67_16 (d : Nat) (L st : List Value) (h : gd_H) : go gd_P0 d 67 16 L st h = gs gd_P0 d 67 16 L (i_cV 68 0 1 19 L st h) := go_eq gd_P0 d 67 16 L st h
theorem x67_19 (d : Nat) (L st : List Value) (h : gd_H) : go gd_P0 d 67 19 L st h = gs gd_P0 d 67 19 L (i_msk [true, true, true, false] (i_pop 20) L st h) := go_eq gd_P0 d 67 19 L st h
theorem x67_20 (d : Nat) (L st : List Value) (h : gd_H) : go gd_P0 d 67 20 L st h = gs gd_P0 d 67 20 L (i_psh (.int 0) 21 L st h) := go_eq gd_P0 d 67 20 L st h
theorem x67_21 (d : Nat) (L st : List Value) (h : gd_H) : go gd_P0 d 67 21 L st h = gs gd_P0 d 67 21 L (i_ist 3 22 L st h) := go_eq gd_P0 d 67 21 L st h
theorem x67_22 (d : Nat) (L st : List Value) (h : gd_H) : go gd_P0 d 67 22 L st h = gs gd_P0 d 67 22 L (i_msk [true, true, true, true] (i_ild 3 23) L st h) := go_eq gd_P0 d 67 22 L st h
theorem x67_23 (d : Nat) (L st : List Value) (h : gd_H) : go gd_P0 d 67 23 L st h = gs gd_P0 d 67 23 L (i_ild 1 24 L st h) := go_eq gd_P0 d 67 23 L st h
theorem x67_24 (d : Nat) (L st : List Value) (h : gd_H) : go gd_P0 d 67 24 L st h = gs gd_P0 d 67 24 L (i_icge 40 27 L st h) := go_eq gd_P0 d 67 24 L st h
theorem x67_27 (d : Nat) (L st : List Value) (h : gd_H) : go gd_P0 d 67 27 L st h = gs gd_P0 d 67 27 L (i_ald 0 28 L st h) := go_eq gd_P0 d 67 27 L st h
theorem x67_28 (d : Nat) (L st : List Value) (h : gd_H) : go gd_P0 d 67 28 L st h = gs gd_P0 d 67 28 L (i_getR 1 4 31 L st h) := go_eq gd_P0 d 67 28 L st h
theorem x67_31 (d : Nat) (L st : List Value) (h : gd_H) : go gd_P0 d 67 31 L st h = gs gd_P0 d 67 31 L (i_cV 152 0 4 34 L st h) := go_eq gd_P0 d 67 31 L st h
theorem x67_34 (d : Nat) (L st : List Value) (h : gd_H) : go gd_P0 d 67 34 L st h = gs gd_P0 d 67 34 L (i_msk [true, true, true, true] (i_inc 3 1 37) L st h) := go_eq gd_P0 d 67 34 L st h
theorem x67_37 (d : Nat) (L st : List Value) (h : gd_H) : go gd_P0 d 67 37 L st h = gs gd_P0 d 67 37 L (i_goto 22 L st h) := go_eq gd_P0 d 67 37 L st h
theorem x67_40 (d : Nat) (L st : List Value) (h : gd_H) : go gd_P0 d 67 40 L st h = gs gd_P0 d 67 40 L (i_ild 2 41 L st h) := go_eq gd_P0 d 67 40 L st h
theorem x67_41 (d : Nat) (L st : List Value) (h : gd_H) : go gd_P0 d 67 41 L st h = gs gd_P0 d 67 41 L (i_ifne 54 44 L st h) := go_eq gd_P0 d 67 41 L st h
theorem x67_44 (d : Nat) (L st : List Value) (h : gd_H) : go gd_P0 d 67 44 L st h = gs gd_P0 d 67 44 L (i_ald 0 45 L st h) := go_eq gd_P0 d 67 44 L st h
theorem x67_45 (d : Nat) (L st : List Value) (h : gd_H) : go gd_P0 d 67 45 L st h = gs gd_P0 d 67 45 L (i_getR 1 4 48 L st h) := go_eq gd_P0 d 67 45 L st h
theorem x67_48 (d : Nat) (L st : List Value) (h : gd_H) : go gd_P0 d 67 48 L st h = gs gd_P0 d 67 48 L (i_cV 158 0 4 51 L st h) := go_eq gd_P0 d 67 48 L st h
theorem x67_51 (d : Nat) (L st : List Value) (h : gd_H) : go gd_P0 d 67 51 L st h = gs gd_P0 d 67 51 L (i_msk [false, false, false, false] (i_goto 76) L st h) := go_eq gd_P0 d 67 51 L st h
theorem x67_54 (d : Nat) (L st : List Value) (h : gd_H) : go gd_P0 d 67 54 L st h = gs gd_P0 d 67 54 L (i_ild 2 55 L st h) := go_eq gd_P0 d 67 54 L st h
theorem x67_55 (d : Nat) (L st : List Value) (h : gd_H) : go gd_P0 d 67 55 L st h = gs gd_P0 d 67 55 L (i_psh (.int 1) 56 L st h) := go_eq gd_P0 d 67 55 L st h
theorem x67_56 (d : Nat) (L st : List Value) (h : gd_H) : go gd_P0 d 67 56 L st h = gs gd_P0 d 67 56 L (i_icne 69 59 L st h) := go_eq gd_P0 d 67 56 L st h
theorem x67_59 (d : Nat) (L st : List Value) (h : gd_H) : go gd_P0 d 67 59 L st h = gs gd_P0 d 67 59 L (i_ald 0 60 L st h) := go_eq gd_P0 d 67 59 L st h
theorem x67_60 (d : Nat) (L st : List Value) (h : gd_H) : go gd_P0 d 67 60 L st h = gs gd_P0 d 67 60 L (i_getR 1 4 63 L st h) := go_eq gd_P0 d 67 60 L st h
theorem x67_63 (d : Nat) (L st : List Value) (h : gd_H) : go gd_P0 d 67 63 L st h = gs gd_P0 d 67 63 L (i_cV 168 0 4 66 L st h) := go_eq gd_P0 d 67 63 L st h
theorem x67_66 (d : Nat) (L st : List Value) (h : gd_H) : go gd_P0 d 67 66 L st h = gs gd_P0 d 67 66 L (i_msk [false, false, false, false] (i_goto 76) L st h) := go_eq gd_P0 d 67 66 L st h
theorem x67_69 (d : Nat) (L st : List Value) (h : gd_H) : go gd_P0 d 67 69 L st h = gs gd_P0 d 67 69 L (i_ald 0 70 L st h) := go_eq gd_P0 d 67 69 L st h
theorem x67_70 (d : Nat) (L st : List Value) (h : gd_H) : go gd_P0 d 67 70 L st h = gs gd_P0 d 67 70 L (i_getR 1 4 73 L st h) := go_eq gd_P0 d 67 70 L st h
theorem x67_73 (d : Nat) (L st : List Value) (h : gd_H) : go gd_P0 d 67 73 L st h = gs gd_P0 d 67 73 L (i_cV 167 0 4 76 L st h) := go_eq gd_P0 d 67 73 L st h
theorem x67_76 (d : Nat) (L st : List Value) (h : gd_H) : go gd_P0 d 67 76 L st h = gs gd_P0 d 67 76 L (i_msk [false, false, false, false] (i_iret) L st h) := go_eq gd_P0 d 67 76 L st h
theorem s67_0 (d : Nat) (h : gd_H) (v0 : Nat) (v1 : Int32) (v2 : Int32) : go gd_P0 d 67 0 [.ref v0, .int v1, .int v2, .null] [] h =
    if gT h v0 = 1 then gc gd_P0 d 67 5 8 [.ref v0, .int v1, .int v2, .null] [] (run gd_P0 d 53 [.ref v0, .int v1, .int 0, .int 99] h) else none :=
  (x67_0 ..).trans ((x67_1 ..).trans ((x67_2 ..).trans ((x67_3 ..).trans ((x67_5 ..).trans ((gs_if ..).trans ((ia9 (by simp)).trans (ic9 rfl rfl)))))))
theorem s67_8 (d : Nat) (h : gd_H) (v0 : Nat) (v1 : Int32) (v2 : Int32) (w3 : Value) : go gd_P0 d 67 8 [.ref v0, .int v1, .int v2, w3] [] h =
    if gT h v0 = 1 then gc gd_P0 d 67 12 15 [.ref v0, .int v1, .int v2, .null] [] (run gd_P0 d 53 [.ref v0, .int v2, .int 0, .int 2] h) else none :=
  (x67_8 ..).trans ((x67_9 ..).trans ((x67_10 ..).trans ((x67_11 ..).trans ((x67_12 ..).trans ((gs_if ..).trans ((ia9 (by simp)).trans (ic9 rfl rfl)))))))
theorem s67_15 (d : Nat) (h : gd_H) (v0 : Nat) (v1 : Int32) (v2 : Int32) (w3 : Value) : go gd_P0 d 67 15 [.ref v0, .int v1, .int v2, w3] [] h =
    if gT h v0 = 1 then gc gd_P0 d 67 16 19 [.ref v0, .int v1, .int v2, .null] [] (run gd_P0 d 68 [.ref v0] h) else none :=
  (x67_15 ..).trans ((x67_16 ..).trans ((gs_if ..).trans ((ia9 (by simp)).trans (ic9 rfl rfl))))
theorem s67_19 (d : Nat) (h : gd_H) (v0 : Nat) (v1 : Int32) (v2 : Int32) (w3 : Value) (z0 : Nat) : go gd_P0 d 67 19 [.ref v0, .int v1, .int v2, w3] [.ref z0] h =
    go gd_P0 d 67 22 [.ref v0, .int v1, .int v2, .int 0] [] h :=
  (x67_19 ..).trans ((x67_20 ..).trans ((x67_21 ..)))
theorem s67_22 (d : Nat) (h : gd_H) (v0 : Nat) (v1 : Int32) (v2 : Int32) (v3 : Int32) : go gd_P0 d 67 22 [.ref v0, .int v1, .int v2, .int v3] [] h =
    if v1 ≤ v3 then if v2 = 0 then if gT h v0 = 1 then if gT h (gR h v0 4) = 4 then gc gd_P0 d 67 48 51 [.ref v0, .int v1, .int v2, .int v3] [] (run gd_P0 d 158 [.ref (gR h v0 4)] h) else none else none else if v2 = 1 then if gT h v0 = 1 then if gT h (gR h v0 4) = 4 then gc gd_P0 d 67 63 66 [.ref v0, .int v1, .int v2, .int v3] [] (run gd_P0 d 168 [.ref (gR h v0 4)] h) else none else none else if gT h v0 = 1 then if gT h (gR h v0 4) = 4 then gc gd_P0 d 67 73 76 [.ref v0, .int v1, .int v2, .int v3] [] (run gd_P0 d 167 [.ref (gR h v0 4)] h) else none else none else if gT h v0 = 1 then if gT h (gR h v0 4) = 4 then gc gd_P0 d 67 31 34 [.ref v0, .int v1, .int v2, .int v3] [] (run gd_P0 d 152 [.ref (gR h v0 4)] h) else none else none :=
  (x67_22 ..).trans ((x67_23 ..).trans ((x67_24 ..).trans ((gs_if ..).trans (ic9 ((x67_40 ..).trans ((x67_41 ..).trans ((gs_if ..).trans (ic9 ((x67_44 ..).trans ((x67_45 ..).trans ((gs_if ..).trans (ic9 ((x67_48 ..).trans ((gs_if ..).trans ((ia9 (by simp)).trans (ic9 rfl rfl)))) rfl)))) ((x67_54 ..).trans ((x67_55 ..).trans ((x67_56 ..).trans ((gs_if ..).trans (ic9 ((x67_59 ..).trans ((x67_60 ..).trans ((gs_if ..).trans (ic9 ((x67_63 ..).trans ((gs_if ..).trans ((ia9 (by simp)).trans (ic9 rfl rfl)))) rfl)))) ((x67_69 ..).trans ((x67_70 ..).trans ((gs_if ..).trans (ic9 ((x67_73 ..).trans ((gs_if ..).trans ((ia9 (by simp)).trans (ic9 rfl rfl)))) rfl))))))))))))) ((x67_27 ..).trans ((x67_28 ..).trans ((gs_if ..).trans (ic9 ((x67_31 ..).trans ((gs_if ..).trans ((ia9 (by simp)).trans (ic9 rfl rfl)))) rfl))))))))
theorem s67_34 (d : Nat) (h : gd_H) (v0 : Nat) (v1 : Int32) (v2 : Int32) (v3 : Int32) : go gd_P0 d 67 34 [.ref v0, .int v1, .int v2, .int v3] [] h =
    go gd_P0 d 67 22 [.ref v0, .int v1, .int v2, .int (v3 + 1)] [] h :=
  (x67_34 ..).trans ((x67_37 ..))
theorem s67_51 (d : Nat) (h : gd_H) (w0 : Value) (w1 : Value) (w2 : Value) (w3 : Value) (z0 : Int32) : go gd_P0 d 67 51 [w0, w1, w2, w3] [.int z0] h =
    go gd_P0 d 67 76 [.null, .null, .null, .null] [.int z0] h :=
  (x67_51 ..)
theorem s67_66 (d : Nat) (h : gd_H) (w0 : Value) (w1 : Value) (w2 : Value) (w3 : Value) (z0 : Int32) : go gd_P0 d 67 66 [w0, w1, w2, w3] [.int z0] h =
    go gd_P0 d 67 76 [.null, .null, .null, .null] [.int z0] h :=
  (x67_66 ..)
theorem s67_76 (d : Nat) (h : gd_H) (w0 : Value) (w1 : Value) (w2 : Value) (w3 : Value) (z0 : Int32) : go gd_P0 d 67 76 [w0, w1, w2, w3] [.int z0] h =
    some (.inl (some (.int z0)), h) :=
  (x67_76 ..)
theorem r67 (d : Nat) (h : gd_H) (v0 : Nat) (v1 : Int32) (v2 : Int32) : run gd_P0 (d + 1) 67 [.ref v0, .int v1, .int v2] h = go gd_P0 d 67 0 [.ref v0, .int v1, .int v2, .null] [] h := run_succ gd_P0 d 67 [.ref v0, .int v1, .int v2] h (Nat.le_of_ble_eq_true rfl)
theorem x68_0 (d : Nat) (L st : List Value) (h : gd_H) : go gd_P0 d 68 0 L st h = gs gd_P0 d 68 0 L (i_ald 0 1 L st h) := go_eq gd_P0 d 68 0 L st h
theorem x68_1 (d : Nat) (L st : List Value) (h : gd_H) : go gd_P0 d 68 1 L st h = gs gd_P0 d 68 1 L (i_getR 1 4 4 L st h) := go_eq gd_P0 d 68 1 L st h
theorem x68_4 (d : Nat) (L st : List Value) (h : gd_H) : go gd_P0 d 68 4 L st h = gs gd_P0 d 68 4 L (i_ald 0 5 L st h) := go_eq gd_P0 d 68 4 L st h
theorem x68_5 (d : Nat) (L st : List Value) (h : gd_H) : go gd_P0 d 68 5 L st h = gs gd_P0 d 68 5 L (i_getR 1 2 8 L st h) := go_eq gd_P0 d 68 5 L st h
theorem x68_8 (d : Nat) (L st : List Value) (h : gd_H) : go gd_P0 d 68 8 L st h = gs gd_P0 d 68 8 L (i_cV 145 0 3 11 L st h) := go_eq gd_P0 d 68 8 L st h
theorem x68_11 (d : Nat) (L st : List Value) (h : gd_H) : go gd_P0 d 68 11 L st h = gs gd_P0 d 68 11 L (i_msk [false] (i_cV 150 1 4 14) L st h) := go_eq gd_P0 d 68 11 L st h
theorem x68_14 (d : Nat) (L st : List Value) (h : gd_H) : go gd_P0 d 68 14 L st h = gs gd_P0 d 68 14 L (i_msk [false] (i_aret) L st h) := go_eq gd_P0 d 68 14 L st h
theorem s68_0 (d : Nat) (h : gd_H) (v0 : Nat) : go gd_P0 d 68 0 [.ref v0] [] h =
    if gT h v0 = 1 then if gT h v0 = 1 then if gT h (gR h v0 2) = 3 then gc gd_P0 d 68 8 11 [.ref v0] [.ref (gR h v0 4)] (run gd_P0 d 145 [.ref (gR h v0 2)] h) else none else none else none :=
  (x68_0 ..).trans ((x68_1 ..).trans ((gs_if ..).trans (ic9 ((x68_4 ..).trans ((x68_5 ..).trans ((gs_if ..).trans (ic9 ((x68_8 ..).trans ((gs_if ..).trans ((ia9 (by simp)).trans (ic9 rfl rfl)))) rfl)))) rfl)))
theorem s68_11 (d : Nat) (h : gd_H) (w0 : Value) (z0 : Nat) (z1 : Nat) : go gd_P0 d 68 11 [w0] [.ref z0, .ref z1] h =
    if gT h z1 = 4 then gc gd_P0 d 68 11 14 [.null] [] (run gd_P0 d 150 [.ref z1, .ref z0] h) else none :=
  (x68_11 ..).trans ((gs_nif ..).trans ((ia9 (by simp)).trans (ic9 rfl rfl)))
theorem s68_14 (d : Nat) (h : gd_H) (w0 : Value) (z0 : Nat) : go gd_P0 d 68 14 [w0] [.ref z0] h =
    some (.inl (some (.ref z0)), h) :=
  (x68_14 ..)
theorem r68 (d : Nat) (h : gd_H) (v0 : Nat) : run gd_P0 (d + 1) 68 [.ref v0] h = go gd_P0 d 68 0 [.ref v0] [] h := run_succ gd_P0 d 68 [.ref v0] h (Nat.le_of_ble_eq_true rfl)
theorem x69_0 (d : Nat) (L st : List Value) (h : gd_H) : go gd_P0 d 69 0 L st h = gs gd_P0 d 69 0 L (i_ald 0 1 L st h) := go_eq gd_P0 d 69 0 L st h
theorem x69_1 (d : Nat) (L st : List Value) (h : gd_H) : go gd_P0 d 69 1 L st h = gs gd_P0 d 69 1 L (i_ild 1 2 L st h) := go_eq gd_P0 d 69 1 L st h
theorem x69_2 (d : Nat) (L st : List Value) (h : gd_H) : go gd_P0 d 69 2 L st h = gs gd_P0 d 69 2 L (i_cV 64 1 1 5 L st h) := go_eq gd_P0 d 69 2 L st h
theorem x69_5 (d : Nat) (L st : List Value) (h : gd_H) : go gd_P0 d 69 5 L st h = gs gd_P0 d 69 5 L (i_msk [true, true, true, false] (i_ald 0 6) L st h) := go_eq gd_P0 d 69 5 L st h
theorem x69_6 (d : Nat) (L st : List Value) (h : gd_H) : go gd_P0 d 69 6 L st h = gs gd_P0 d 69 6 L (i_ild 2 7 L st h) := go_eq gd_P0 d 69 6 L st h
theorem x69_7 (d : Nat) (L st : List Value) (h : gd_H) : go gd_P0 d 69 7 L st h = gs gd_P0 d 69 7 L (i_cV 64 1 1 10 L st h) := go_eq gd_P0 d 69 7 L st h
theorem x69_10 (d : Nat) (L st : List Value) (h : gd_H) : go gd_P0 d 69 10 L st h = gs gd_P0 d 69 10 L (i_msk [true, true, true, false] (i_ild 1 11) L st h) := go_eq gd_P0 d 69 10 L st h
theorem x69_11 (d : Nat) (L st : List Value) (h : gd_H) : go gd_P0 d 69 11 L st h = gs gd_P0 d 69 11 L (i_ild 2 12 L st h) := go_eq gd_P0 d 69 11 L st h
theorem x69_12 (d : Nat) (L st : List Value) (h : gd_H) : go gd_P0 d 69 12 L st h = gs gd_P0 d 69 12 L (i_icne 22 15 L st h) := go_eq gd_P0 d 69 12 L st h
theorem x69_15 (d : Nat) (L st : List Value) (h : gd_H) : go gd_P0 d 69 15 L st h = gs gd_P0 d 69 15 L (i_ald 0 16 L st h) := go_eq gd_P0 d 69 15 L st h
theorem x69_16 (d : Nat) (L st : List Value) (h : gd_H) : go gd_P0 d 69 16 L st h = gs gd_P0 d 69 16 L (i_psh (.int 1) 17 L st h) := go_eq gd_P0 d 69 16 L st h
theorem x69_17 (d : Nat) (L st : List Value) (h : gd_H) : go gd_P0 d 69 17 L st h = gs gd_P0 d 69 17 L (i_psh (.int 0) 18 L st h) := go_eq gd_P0 d 69 17 L st h
theorem x69_18 (d : Nat) (L st : List Value) (h : gd_H) : go gd_P0 d 69 18 L st h = gs gd_P0 d 69 18 L (i_psh (.int 0) 19 L st h) := go_eq gd_P0 d 69 18 L st h
theorem x69_19 (d : Nat) (L st : List Value) (h : gd_H) : go gd_P0 d 69 19 L st h = gs gd_P0 d 69 19 L (i_cV 53 3 1 22 L st h) := go_eq gd_P0 d 69 19 L st h
theorem x69_22 (d : Nat) (L st : List Value) (h : gd_H) : go gd_P0 d 69 22 L st h = gs gd_P0 d 69 22 L (i_msk [true, true, true, false] (i_ald 0 23) L st h) := go_eq gd_P0 d 69 22 L st h
theorem x69_23 (d : Nat) (L st : List Value) (h : gd_H) : go gd_P0 d 69 23 L st h = gs gd_P0 d 69 23 L (i_cV 68 0 1 26 L st h) := go_eq gd_P0 d 69 23 L st h
theorem x69_26 (d : Nat) (L st : List Value) (h : gd_H) : go gd_P0 d 69 26 L st h = gs gd_P0 d 69 26 L (i_msk [true, true, true, false] (i_pop 27) L st h) := go_eq gd_P0 d 69 26 L st h
theorem x69_27 (d : Nat) (L st : List Value) (h : gd_H) : go gd_P0 d 69 27 L st h = gs gd_P0 d 69 27 L (i_psh (.int 0) 28 L st h) := go_eq gd_P0 d 69 27 L st h
theorem x69_28 (d : Nat) (L st : List Value) (h : gd_H) : go gd_P0 d 69 28 L st h = gs gd_P0 d 69 28 L (i_ist 3 29 L st h) := go_eq gd_P0 d 69 28 L st h
theorem x69_29 (d : Nat) (L st : List Value) (h : gd_H) : go gd_P0 d 69 29 L st h = gs gd_P0 d 69 29 L (i_msk [true, true, true, true] (i_ild 3 30) L st h) := go_eq gd_P0 d 69 29 L st h
theorem x69_30 (d : Nat) (L st : List Value) (h : gd_H) : go gd_P0 d 69 30 L st h = gs gd_P0 d 69 30 L (i_psh (.int 99) 32 L st h) := go_eq gd_P0 d 69 30 L st h
theorem x69_32 (d : Nat) (L st : List Value) (h : gd_H) : go gd_P0 d 69 32 L st h = gs gd_P0 d 69 32 L (i_icgt 71 35 L st h) := go_eq gd_P0 d 69 32 L st h
theorem x69_35 (d : Nat) (L st : List Value) (h : gd_H) : go gd_P0 d 69 35 L st h = gs gd_P0 d 69 35 L (i_ald 0 36 L st h) := go_eq gd_P0 d 69 35 L st h
theorem x69_36 (d : Nat) (L st : List Value) (h : gd_H) : go gd_P0 d 69 36 L st h = gs gd_P0 d 69 36 L (i_getR 1 4 39 L st h) := go_eq gd_P0 d 69 36 L st h
theorem x69_39 (d : Nat) (L st : List Value) (h : gd_H) : go gd_P0 d 69 39 L st h = gs gd_P0 d 69 39 L (i_getR 4 1 42 L st h) := go_eq gd_P0 d 69 39 L st h
theorem x69_42 (d : Nat) (L st : List Value) (h : gd_H) : go gd_P0 d 69 42 L st h = gs gd_P0 d 69 42 L (i_ild 1 43 L st h) := go_eq gd_P0 d 69 42 L st h
theorem x69_43 (d : Nat) (L st : List Value) (h : gd_H) : go gd_P0 d 69 43 L st h = gs gd_P0 d 69 43 L (i_aldI 31 44 L st h) := go_eq gd_P0 d 69 43 L st h
theorem x69_44 (d : Nat) (L st : List Value) (h : gd_H) : go gd_P0 d 69 44 L st h = gs gd_P0 d 69 44 L (i_ald 0 45 L st h) := go_eq gd_P0 d 69 44 L st h
theorem x69_45 (d : Nat) (L st : List Value) (h : gd_H) : go gd_P0 d 69 45 L st h = gs gd_P0 d 69 45 L (i_getR 1 4 48 L st h) := go_eq gd_P0 d 69 45 L st h
theorem x69_48 (d : Nat) (L st : List Value) (h : gd_H) : go gd_P0 d 69 48 L st h = gs gd_P0 d 69 48 L (i_getR 4 1 51 L st h) := go_eq gd_P0 d 69 48 L st h
theorem x69_51 (d : Nat) (L st : List Value) (h : gd_H) : go gd_P0 d 69 51 L st h = gs gd_P0 d 69 51 L (i_ild 2 52 L st h) := go_eq gd_P0 d 69 51 L st h
theorem x69_52 (d : Nat) (L st : List Value) (h : gd_H) : go gd_P0 d 69 52 L st h = gs gd_P0 d 69 52 L (i_aldI 31 53 L st h) := go_eq gd_P0 d 69 52 L st h
theorem x69_53 (d : Nat) (L st : List Value) (h : gd_H) : go gd_P0 d 69 53 L st h = gs gd_P0 d 69 53 L (i_icle 58 56 L st h) := go_eq gd_P0 d 69 53 L st h
theorem x69_56 (d : Nat) (L st : List Value) (h : gd_H) : go gd_P0 d 69 56 L st h = gs gd_P0 d 69 56 L (i_ild 3 57 L st h) := go_eq gd_P0 d 69 56 L st h
theorem x69_57 (d : Nat) (L st : List Value) (h : gd_H) : go gd_P0 d 69 57 L st h = gs gd_P0 d 69 57 L (i_iret L st h) := go_eq gd_P0 d 69 57 L st h
theorem x69_58 (d : Nat) (L st : List Value) (h : gd_H) : go gd_P0 d 69 58 L st h = gs gd_P0 d 69 58 L (i_ald 0 59 L st h) := go_eq gd_P0 d 69 58 L st h
theorem x69_59 (d : Nat) (L st : List Value) (h : gd_H) : go gd_P0 d 69 59 L st h = gs gd_P0 d 69 59 L (i_getR 1 4 62 L st h) := go_eq gd_P0 d 69 59 L st h
theorem x69_62 (d : Nat) (L st : List Value) (h : gd_H) : go gd_P0 d 69 62 L st h = gs gd_P0 d 69 62 L (i_cV 152 0 4 65 L st h) := go_eq gd_P0 d 69 62 L st h
theorem x69_65 (d : Nat) (L st : List Value) (h : gd_H) : go gd_P0 d 69 65 L st h = gs gd_P0 d 69 65 L (i_msk [true, true, true, true] (i_inc 3 1 68) L st h) := go_eq gd_P0 d 69 65 L st h
theorem x69_68 (d : Nat) (L st : List Value) (h : gd_H) : go gd_P0 d 69 68 L st h = gs gd_P0 d 69 68 L (i_goto 29 L st h) := go_eq gd_P0 d 69 68 L st h
theorem x69_71 (d : Nat) (L st : List Value) (h : gd_H) : go gd_P0 d 69 71 L st h = gs gd_P0 d 69 71 L (i_psh (.int (-1)) 72 L st h) := go_eq gd_P0 d 69 71 L st h
theorem x69_72 (d : Nat) (L st : List Value) (h : gd_H) : go gd_P0 d 69 72 L st h = gs gd_P0 d 69 72 L (i_iret L st h) := go_eq gd_P0 d 69 72 L st h
theorem s69_0 (d : Nat) (h : gd_H) (v0 : Nat) (v1 : Int32) (v2 : Int32) : go gd_P0 d 69 0 [.ref v0, .int v1, .int v2, .null] [] h =
    if gT h v0 = 1 then gc gd_P0 d 69 2 5 [.ref v0, .int v1, .int v2, .null] [] (run gd_P0 d 64 [.ref v0, .int v1] h) else none :=
  (x69_0 ..).trans ((x69_1 ..).trans ((x69_2 ..).trans ((gs_if ..).trans ((ia9 (by simp)).trans (ic9 rfl rfl)))))
theorem s69_5 (d : Nat) (h : gd_H) (v0 : Nat) (v1 : Int32) (v2 : Int32) (w3 : Value) : go gd_P0 d 69 5 [.ref v0, .int v1, .int v2, w3] [] h =
    if gT h v0 = 1 then gc gd_P0 d 69 7 10 [.ref v0, .int v1, .int v2, .null] [] (run gd_P0 d 64 [.ref v0, .int v2] h) else none :=
  (x69_5 ..).trans ((x69_6 ..).trans ((x69_7 ..).trans ((gs_if ..).trans ((ia9 (by simp)).trans (ic9 rfl rfl)))))
theorem s69_10 (d : Nat) (h : gd_H) (v0 : Nat) (v1 : Int32) (v2 : Int32) (w3 : Value) : go gd_P0 d 69 10 [.ref v0, .int v1, .int v2, w3] [] h =
    if v1 = v2 then if gT h v0 = 1 then gc gd_P0 d 69 19 22 [.ref v0, .int v1, .int v2, .null] [] (run gd_P0 d 53 [.ref v0, .int 1, .int 0, .int 0] h) else none else go gd_P0 d 69 22 [.ref v0, .int v1, .int v2, .null] [] h :=
  (x69_10 ..).trans ((x69_11 ..).trans ((x69_12 ..).trans ((gs_if ..).trans (ic9 ((x69_15 ..).trans ((x69_16 ..).trans ((x69_17 ..).trans ((x69_18 ..).trans ((x69_19 ..).trans ((gs_if ..).trans ((ia9 (by simp)).trans (ic9 rfl rfl)))))))) (rfl)))))
theorem s69_22 (d : Nat) (h : gd_H) (v0 : Nat) (v1 : Int32) (v2 : Int32) (w3 : Value) : go gd_P0 d 69 22 [.ref v0, .int v1, .int v2, w3] [] h =
    if gT h v0 = 1 then gc gd_P0 d 69 23 26 [.ref v0, .int v1, .int v2, .null] [] (run gd_P0 d 68 [.ref v0] h) else none :=
  (x69_22 ..).trans ((x69_23 ..).trans ((gs_if ..).trans ((ia9 (by simp)).trans (ic9 rfl rfl))))
theorem s69_26 (d : Nat) (h : gd_H) (v0 : Nat) (v1 : Int32) (v2 : Int32) (w3 : Value) (z0 : Nat) : go gd_P0 d 69 26 [.ref v0, .int v1, .int v2, w3] [.ref z0] h =
    go gd_P0 d 69 29 [.ref v0, .int v1, .int v2, .int 0] [] h :=
  (x69_26 ..).trans ((x69_27 ..).trans ((x69_28 ..)))
theorem s69_29 (d : Nat) (h : gd_H) (v0 : Nat) (v1 : Int32) (v2 : Int32) (v3 : Int32) : go gd_P0 d 69 29 [.ref v0, .int v1, .int v2, .int v3] [] h =
    if 99 < v3 then some (.inl (some (.int (-1))), h) else if gT h v0 = 1 then if gT h (gR h v0 4) = 4 then if gT h (gR h (gR h v0 4) 1) = 31 ∧ ¬ (v1 < 0 ∨ gL h (gR h (gR h v0 4) 1) ≤ Int32.toNatClampNeg v1) then if gT h v0 = 1 then if gT h (gR h v0 4) = 4 then if gT h (gR h (gR h v0 4) 1) = 31 ∧ ¬ (v2 < 0 ∨ gL h (gR h (gR h v0 4) 1) ≤ Int32.toNatClampNeg v2) then if (gI h (gR h (gR h v0 4) 1) (Int32.toNatClampNeg v1)) ≤ (gI h (gR h (gR h v0 4) 1) (Int32.toNatClampNeg v2)) then if gT h v0 = 1 then if gT h (gR h v0 4) = 4 then gc gd_P0 d 69 62 65 [.ref v0, .int v1, .int v2, .int v3] [] (run gd_P0 d 152 [.ref (gR h v0 4)] h) else none else none else some (.inl (some (.int v3)), h) else none else none else none else none else none else none :=
  (x69_29 ..).trans ((x69_30 ..).trans ((x69_32 ..).trans ((gs_if ..).trans (ic9 ((x69_71 ..).trans ((x69_72 ..))) ((x69_35 ..).trans ((x69_36 ..).trans ((gs_if ..).trans (ic9 ((x69_39 ..).trans ((gs_if ..).trans (ic9 ((x69_42 ..).trans ((x69_43 ..).trans ((gs_if ..).trans (ic9 ((x69_44 ..).trans ((x69_45 ..).trans ((gs_if ..).trans (ic9 ((x69_48 ..).trans ((gs_if ..).trans (ic9 ((x69_51 ..).trans ((x69_52 ..).trans ((gs_if ..).trans (ic9 ((x69_53 ..).trans ((gs_if ..).trans (ic9 ((x69_58 ..).trans ((x69_59 ..).trans ((gs_if ..).trans (ic9 ((x69_62 ..).trans ((gs_if ..).trans ((ia9 (by simp)).trans (ic9 rfl rfl)))) rfl)))) ((x69_56 ..).trans ((x69_57 ..)))))) rfl)))) rfl))) rfl)))) rfl)))) rfl))) rfl))))))))
theorem s69_65 (d : Nat) (h : gd_H) (v0 : Nat) (v1 : Int32) (v2 : Int32) (v3 : Int32) : go gd_P0 d 69 65 [.ref v0, .int v1, .int v2, .int v3] [] h =
    go gd_P0 d 69 29 [.ref v0, .int v1, .int v2, .int (v3 + 1)] [] h :=
  (x69_65 ..).trans ((x69_68 ..))
theorem r69 (d : Nat) (h : gd_H) (v0 : Nat) (v1 : Int32) (v2 : Int32) : run gd_P0 (d + 1) 69 [.ref v0, .int v1, .int v2] h = go gd_P0 d 69 0 [.ref v0, .int v1, .int v2, .null] [] h := run_succ gd_P0 d 69 [.ref v0, .int v1, .int v2] h (Nat.le_of_ble_eq_true rfl)
theorem x70_0 (d : Nat) (L st : List Value) (h : gd_H) : go gd_P0 d 70 0 L st h = gs gd_P0 d 70 0 L (i_ald 0 1 L st h) := go_eq gd_P0 d 70 0 L st h
theorem x70_1 (d : Nat) (L st : List Value) (h : gd_H) : go gd_P0 d 70 1 L st h = gs gd_P0 d 70 1 L (i_ild 1 2 L st h) := go_eq gd_P0 d 70 1 L st h
theorem x70_2 (d : Nat) (L st : List Value) (h : gd_H) : go gd_P0 d 70 2 L st h = gs gd_P0 d 70 2 L (i_cV 64 1 1 5 L st h) := go_eq gd_P0 d 70 2 L st h
theorem x70_5 (d : Nat) (L st : List Value) (h : gd_H) : go gd_P0 d 70 5 L st h = gs gd_P0 d 70 5 L (i_msk [true, true, true, false, false] (i_ald 0 6) L st h) := go_eq gd_P0 d 70 5 L st h
theorem x70_6 (d : Nat) (L st : List Value) (h : gd_H) : go gd_P0 d 70 6 L st h = gs gd_P0 d 70 6 L (i_ild 2 7 L st h) := go_eq gd_P0 d 70 6 L st h
theorem x70_7 (d : Nat) (L st : List Value) (h : gd_H) : go gd_P0 d 70 7 L st h = gs gd_P0 d 70 7 L (i_psh (.int 0) 8 L st h) := go_eq gd_P0 d 70 7 L st h
theorem x70_8 (d : Nat) (L st : List Value) (h : gd_H) : go gd_P0 d 70 8 L st h = gs gd_P0 d 70 8 L (i_psh (.int 99) 10 L st h) := go_eq gd_P0 d 70 8 L st h
theorem x70_10 (d : Nat) (L st : List Value) (h : gd_H) : go gd_P0 d 70 10 L st h = gs gd_P0 d 70 10 L (i_cV 53 3 1 13 L st h) := go_eq gd_P0 d 70 10 L st h
theorem x70_13 (d : Nat) (L st : List Value) (h : gd_H) : go gd_P0 d 70 13 L st h = gs gd_P0 d 70 13 L (i_msk [true, true, true, false, false] (i_psh (.int 0) 14) L st h) := go_eq gd_P0 d 70 13 L st h
theorem x70_14 (d : Nat) (L st : List Value) (h : gd_H) : go gd_P0 d 70 14 L st h = gs gd_P0 d 70 14 L (i_ist 3 15 L st h) := go_eq gd_P0 d 70 14 L st h
theorem x70_15 (d : Nat) (L st : List Value) (h : gd_H) : go gd_P0 d 70 15 L st h = gs gd_P0 d 70 15 L (i_msk [true, true, true, true, false] (i_ild 3 16) L st h) := go_eq gd_P0 d 70 15 L st h
theorem x70_16 (d : Nat) (L st : List Value) (h : gd_H) : go gd_P0 d 70 16 L st h = gs gd_P0 d 70 16 L (i_psh (.int 10) 18 L st h) := go_eq gd_P0 d 70 16 L st h
theorem x70_18 (d : Nat) (L st : List Value) (h : gd_H) : go gd_P0 d 70 18 L st h = gs gd_P0 d 70 18 L (i_icge 93 21 L st h) := go_eq gd_P0 d 70 18 L st h
theorem x70_21 (d : Nat) (L st : List Value) (h : gd_H) : go gd_P0 d 70 21 L st h = gs gd_P0 d 70 21 L (i_ald 0 22 L st h) := go_eq gd_P0 d 70 21 L st h
theorem x70_22 (d : Nat) (L st : List Value) (h : gd_H) : go gd_P0 d 70 22 L st h = gs gd_P0 d 70 22 L (i_getR 1 2 25 L st h) := go_eq gd_P0 d 70 22 L st h
theorem x70_25 (d : Nat) (L st : List Value) (h : gd_H) : go gd_P0 d 70 25 L st h = gs gd_P0 d 70 25 L (i_cV 145 0 3 28 L st h) := go_eq gd_P0 d 70 25 L st h
theorem x70_28 (d : Nat) (L st : List Value) (h : gd_H) : go gd_P0 d 70 28 L st h = gs gd_P0 d 70 28 L (i_msk [true, true, true, true, false] (i_getR 4 3 31) L st h) := go_eq gd_P0 d 70 28 L st h
theorem x70_31 (d : Nat) (L st : List Value) (h : gd_H) : go gd_P0 d 70 31 L st h = gs gd_P0 d 70 31 L (i_ild 1 32 L st h) := go_eq gd_P0 d 70 31 L st h
theorem x70_32 (d : Nat) (L st : List Value) (h : gd_H) : go gd_P0 d 70 32 L st h = gs gd_P0 d 70 32 L (i_aldI 31 33 L st h) := go_eq gd_P0 d 70 32 L st h
theorem x70_33 (d : Nat) (L st : List Value) (h : gd_H) : go gd_P0 d 70 33 L st h = gs gd_P0 d 70 33 L (i_psh (.int (-1)) 34 L st h) := go_eq gd_P0 d 70 33 L st h
theorem x70_34 (d : Nat) (L st : List Value) (h : gd_H) : go gd_P0 d 70 34 L st h = gs gd_P0 d 70 34 L (i_iceq 93 37 L st h) := go_eq gd_P0 d 70 34 L st h
theorem x70_37 (d : Nat) (L st : List Value) (h : gd_H) : go gd_P0 d 70 37 L st h = gs gd_P0 d 70 37 L (i_ald 0 38 L st h) := go_eq gd_P0 d 70 37 L st h
theorem x70_38 (d : Nat) (L st : List Value) (h : gd_H) : go gd_P0 d 70 38 L st h = gs gd_P0 d 70 38 L (i_cV 68 0 1 41 L st h) := go_eq gd_P0 d 70 38 L st h
theorem x70_41 (d : Nat) (L st : List Value) (h : gd_H) : go gd_P0 d 70 41 L st h = gs gd_P0 d 70 41 L (i_msk [true, true, true, true, false] (i_pop 42) L st h) := go_eq gd_P0 d 70 41 L st h
theorem x70_42 (d : Nat) (L st : List Value) (h : gd_H) : go gd_P0 d 70 42 L st h = gs gd_P0 d 70 42 L (i_ald 0 43 L st h) := go_eq gd_P0 d 70 42 L st h
theorem x70_43 (d : Nat) (L st : List Value) (h : gd_H) : go gd_P0 d 70 43 L st h = gs gd_P0 d 70 43 L (i_getR 1 4 46 L st h) := go_eq gd_P0 d 70 43 L st h
theorem x70_46 (d : Nat) (L st : List Value) (h : gd_H) : go gd_P0 d 70 46 L st h = gs gd_P0 d 70 46 L (i_getR 4 2 49 L st h) := go_eq gd_P0 d 70 46 L st h
theorem x70_49 (d : Nat) (L st : List Value) (h : gd_H) : go gd_P0 d 70 49 L st h = gs gd_P0 d 70 49 L (i_ild 1 50 L st h) := go_eq gd_P0 d 70 49 L st h
theorem x70_50 (d : Nat) (L st : List Value) (h : gd_H) : go gd_P0 d 70 50 L st h = gs gd_P0 d 70 50 L (i_ild 3 51 L st h) := go_eq gd_P0 d 70 50 L st h
theorem x70_51 (d : Nat) (L st : List Value) (h : gd_H) : go gd_P0 d 70 51 L st h = gs gd_P0 d 70 51 L (i_astI 52 L st h) := go_eq gd_P0 d 70 51 L st h
theorem x70_52 (d : Nat) (L st : List Value) (h : gd_H) : go gd_P0 d 70 52 L st h = gs gd_P0 d 70 52 L (i_psh (.int 0) 53 L st h) := go_eq gd_P0 d 70 52 L st h
theorem x70_53 (d : Nat) (L st : List Value) (h : gd_H) : go gd_P0 d 70 53 L st h = gs gd_P0 d 70 53 L (i_ist 4 55 L st h) := go_eq gd_P0 d 70 53 L st h
theorem x70_55 (d : Nat) (L st : List Value) (h : gd_H) : go gd_P0 d 70 55 L st h = gs gd_P0 d 70 55 L (i_msk [true, true, true, true, true] (i_ild 4 57) L st h) := go_eq gd_P0 d 70 55 L st h
theorem x70_57 (d : Nat) (L st : List Value) (h : gd_H) : go gd_P0 d 70 57 L st h = gs gd_P0 d 70 57 L (i_ild 2 58 L st h) := go_eq gd_P0 d 70 57 L st h
theorem x70_58 (d : Nat) (L st : List Value) (h : gd_H) : go gd_P0 d 70 58 L st h = gs gd_P0 d 70 58 L (i_icge 74 61 L st h) := go_eq gd_P0 d 70 58 L st h
theorem x70_61 (d : Nat) (L st : List Value) (h : gd_H) : go gd_P0 d 70 61 L st h = gs gd_P0 d 70 61 L (i_ald 0 62 L st h) := go_eq gd_P0 d 70 61 L st h
theorem x70_62 (d : Nat) (L st : List Value) (h : gd_H) : go gd_P0 d 70 62 L st h = gs gd_P0 d 70 62 L (i_getR 1 4 65 L st h) := go_eq gd_P0 d 70 62 L st h
theorem x70_65 (d : Nat) (L st : List Value) (h : gd_H) : go gd_P0 d 70 65 L st h = gs gd_P0 d 70 65 L (i_cV 152 0 4 68 L st h) := go_eq gd_P0 d 70 65 L st h
theorem x70_68 (d : Nat) (L st : List Value) (h : gd_H) : go gd_P0 d 70 68 L st h = gs gd_P0 d 70 68 L (i_msk [true, true, true, true, true] (i_inc 4 1 71) L st h) := go_eq gd_P0 d 70 68 L st h
theorem x70_71 (d : Nat) (L st : List Value) (h : gd_H) : go gd_P0 d 70 71 L st h = gs gd_P0 d 70 71 L (i_goto 55 L st h) := go_eq gd_P0 d 70 71 L st h
theorem x70_74 (d : Nat) (L st : List Value) (h : gd_H) : go gd_P0 d 70 74 L st h = gs gd_P0 d 70 74 L (i_ald 0 75 L st h) := go_eq gd_P0 d 70 74 L st h
theorem x70_75 (d : Nat) (L st : List Value) (h : gd_H) : go gd_P0 d 70 75 L st h = gs gd_P0 d 70 75 L (i_getR 1 4 78 L st h) := go_eq gd_P0 d 70 75 L st h
theorem x70_78 (d : Nat) (L st : List Value) (h : gd_H) : go gd_P0 d 70 78 L st h = gs gd_P0 d 70 78 L (i_ild 1 79 L st h) := go_eq gd_P0 d 70 78 L st h
theorem x70_79 (d : Nat) (L st : List Value) (h : gd_H) : go gd_P0 d 70 79 L st h = gs gd_P0 d 70 79 L (i_cV 155 1 4 82 L st h) := go_eq gd_P0 d 70 79 L st h
theorem x70_82 (d : Nat) (L st : List Value) (h : gd_H) : go gd_P0 d 70 82 L st h = gs gd_P0 d 70 82 L (i_msk [true, true, true, true, false] (i_iflt 87 85) L st h) := go_eq gd_P0 d 70 82 L st h
theorem x70_85 (d : Nat) (L st : List Value) (h : gd_H) : go gd_P0 d 70 85 L st h = gs gd_P0 d 70 85 L (i_ild 3 86 L st h) := go_eq gd_P0 d 70 85 L st h
theorem x70_86 (d : Nat) (L st : List Value) (h : gd_H) : go gd_P0 d 70 86 L st h = gs gd_P0 d 70 86 L (i_iret L st h) := go_eq gd_P0 d 70 86 L st h
theorem x70_87 (d : Nat) (L st : List Value) (h : gd_H) : go gd_P0 d 70 87 L st h = gs gd_P0 d 70 87 L (i_inc 3 1 90 L st h) := go_eq gd_P0 d 70 87 L st h
theorem x70_90 (d : Nat) (L st : List Value) (h : gd_H) : go gd_P0 d 70 90 L st h = gs gd_P0 d 70 90 L (i_goto 15 L st h) := go_eq gd_P0 d 70 90 L st h
theorem x70_93 (d : Nat) (L st : List Value) (h : gd_H) : go gd_P0 d 70 93 L st h = gs gd_P0 d 70 93 L (i_msk [false, false, false, false, false] (i_psh (.int (-1)) 94) L st h) := go_eq gd_P0 d 70 93 L st h
theorem x70_94 (d : Nat) (L st : List Value) (h : gd_H) : go gd_P0 d 70 94 L st h = gs gd_P0 d 70 94 L (i_iret L st h) := go_eq gd_P0 d 70 94 L st h
theorem s70_0 (d : Nat) (h : gd_H) (v0 : Nat) (v1 : Int32) (v2 : Int32) : go gd_P0 d 70 0 [.ref v0, .int v1, .int v2, .null, .null] [] h =
    if gT h v0 = 1 then gc gd_P0 d 70 2 5 [.ref v0, .int v1, .int v2, .null, .null] [] (run gd_P0 d 64 [.ref v0, .int v1] h) else none :=
  (x70_0 ..).trans ((x70_1 ..).trans ((x70_2 ..).trans ((gs_if ..).trans ((ia9 (by simp)).trans (ic9 rfl rfl)))))
theorem s70_5 (d : Nat) (h : gd_H) (v0 : Nat) (v1 : Int32) (v2 : Int32) (w3 : Value) (w4 : Value) : go gd_P0 d 70 5 [.ref v0, .int v1, .int v2, w3, w4] [] h =
    if gT h v0 = 1 then gc gd_P0 d 70 10 13 [.ref v0, .int v1, .int v2, .null, .null] [] (run gd_P0 d 53 [.ref v0, .int v2, .int 0, .int 99] h) else none :=
  (x70_5 ..).trans ((x70_6 ..).trans ((x70_7 ..).trans ((x70_8 ..).trans ((x70_10 ..).trans ((gs_if ..).trans ((ia9 (by simp)).trans (ic9 rfl rfl)))))))
theorem s70_13 (d : Nat) (h : gd_H) (v0 : Nat) (v1 : Int32) (v2 : Int32) (w3 : Value) (w4 : Value) : go gd_P0 d 70 13 [.ref v0, .int v1, .int v2, w3, w4] [] h =
    go gd_P0 d 70 15 [.ref v0, .int v1, .int v2, .int 0, .null] [] h :=
  (x70_13 ..).trans ((x70_14 ..))
theorem s70_15 (d : Nat) (h : gd_H) (v0 : Nat) (v1 : Int32) (v2 : Int32) (v3 : Int32) (w4 : Value) : go gd_P0 d 70 15 [.ref v0, .int v1, .int v2, .int v3, w4] [] h =
    if 10 ≤ v3 then go gd_P0 d 70 93 [.ref v0, .int v1, .int v2, .int v3, .null] [] h else if gT h v0 = 1 then if gT h (gR h v0 2) = 3 then gc gd_P0 d 70 25 28 [.ref v0, .int v1, .int v2, .int v3, .null] [] (run gd_P0 d 145 [.ref (gR h v0 2)] h) else none else none :=
  (x70_15 ..).trans ((x70_16 ..).trans ((x70_18 ..).trans ((gs_if ..).trans (ic9 (rfl) ((x70_21 ..).trans ((x70_22 ..).trans ((gs_if ..).trans (ic9 ((x70_25 ..).trans ((gs_if ..).trans ((ia9 (by simp)).trans (ic9 rfl rfl)))) rfl))))))))
theorem s70_28 (d : Nat) (h : gd_H) (v0 : Nat) (v1 : Int32) (v2 : Int32) (v3 : Int32) (w4 : Value) (z0 : Nat) : go gd_P0 d 70 28 [.ref v0, .int v1, .int v2, .int v3, w4] [.ref z0] h =
    if gT h z0 = 4 then if gT h (gR h z0 3) = 31 ∧ ¬ (v1 < 0 ∨ gL h (gR h z0 3) ≤ Int32.toNatClampNeg v1) then if (gI h (gR h z0 3) (Int32.toNatClampNeg v1)) = (-1) then go gd_P0 d 70 93 [.ref v0, .int v1, .int v2, .int v3, .null] [] h else if gT h v0 = 1 then gc gd_P0 d 70 38 41 [.ref v0, .int v1, .int v2, .int v3, .null] [] (run gd_P0 d 68 [.ref v0] h) else none else none else none :=
  (x70_28 ..).trans ((gs_nif ..).trans (ic9 ((x70_31 ..).trans ((x70_32 ..).trans ((gs_if ..).trans (ic9 ((x70_33 ..).trans ((x70_34 ..).trans ((gs_if ..).trans (ic9 (rfl) ((x70_37 ..).trans ((x70_38 ..).trans ((gs_if ..).trans ((ia9 (by simp)).trans (ic9 rfl rfl))))))))) rfl)))) rfl))
theorem s70_41 (d : Nat) (h : gd_H) (v0 : Nat) (v1 : Int32) (v2 : Int32) (v3 : Int32) (w4 : Value) (z0 : Nat) : go gd_P0 d 70 41 [.ref v0, .int v1, .int v2, .int v3, w4] [.ref z0] h =
    if gT h v0 = 1 then if gT h (gR h v0 4) = 4 then if gT h (gR h (gR h v0 4) 2) = 31 ∧ ¬ (v1 < 0 ∨ gL h (gR h (gR h v0 4) 2) ≤ Int32.toNatClampNeg v1) then go gd_P0 d 70 55 [.ref v0, .int v1, .int v2, .int v3, .int 0] [] (wI h (up1 (gI h) (gR h (gR h v0 4) 2) (Int32.toNatClampNeg v1) v3)) else none else none else none :=
  (x70_41 ..).trans ((x70_42 ..).trans ((x70_43 ..).trans ((gs_if ..).trans (ic9 ((x70_46 ..).trans ((gs_if ..).trans (ic9 ((x70_49 ..).trans ((x70_50 ..).trans ((x70_51 ..).trans ((gs_if ..).trans (ic9 ((x70_52 ..).trans ((x70_53 ..))) rfl))))) rfl))) rfl))))
theorem s70_55 (d : Nat) (h : gd_H) (v0 : Nat) (v1 : Int32) (v2 : Int32) (v3 : Int32) (v4 : Int32) : go gd_P0 d 70 55 [.ref v0, .int v1, .int v2, .int v3, .int v4] [] h =
    if v2 ≤ v4 then if gT h v0 = 1 then if gT h (gR h v0 4) = 4 then gc gd_P0 d 70 79 82 [.ref v0, .int v1, .int v2, .int v3, .int v4] [] (run gd_P0 d 155 [.ref (gR h v0 4), .int v1] h) else none else none else if gT h v0 = 1 then if gT h (gR h v0 4) = 4 then gc gd_P0 d 70 65 68 [.ref v0, .int v1, .int v2, .int v3, .int v4] [] (run gd_P0 d 152 [.ref (gR h v0 4)] h) else none else none :=
  (x70_55 ..).trans ((x70_57 ..).trans ((x70_58 ..).trans ((gs_if ..).trans (ic9 ((x70_74 ..).trans ((x70_75 ..).trans ((gs_if ..).trans (ic9 ((x70_78 ..).trans ((x70_79 ..).trans ((gs_if ..).trans ((ia9 (by simp)).trans (ic9 rfl rfl))))) rfl)))) ((x70_61 ..).trans ((x70_62 ..).trans ((gs_if ..).trans (ic9 ((x70_65 ..).trans ((gs_if ..).trans ((ia9 (by simp)).trans (ic9 rfl rfl)))) rfl))))))))
theorem s70_68 (d : Nat) (h : gd_H) (v0 : Nat) (v1 : Int32) (v2 : Int32) (v3 : Int32) (v4 : Int32) : go gd_P0 d 70 68 [.ref v0, .int v1, .int v2, .int v3, .int v4] [] h =
    go gd_P0 d 70 55 [.ref v0, .int v1, .int v2, .int v3, .int (v4 + 1)] [] h :=
  (x70_68 ..).trans ((x70_71 ..))
theorem s70_82 (d : Nat) (h : gd_H) (v0 : Nat) (v1 : Int32) (v2 : Int32) (v3 : Int32) (w4 : Value) (z0 : Int32) : go gd_P0 d 70 82 [.ref v0, .int v1, .int v2, .int v3, w4] [.int z0] h =
    if z0 < 0 then go gd_P0 d 70 15 [.ref v0, .int v1, .int v2, .int (v3 + 1), .null] [] h else some (.inl (some (.int v3)), h) :=
  (x70_82 ..).trans ((gs_nif ..).trans (ic9 ((x70_87 ..).trans ((x70_90 ..))) ((x70_85 ..).trans ((x70_86 ..)))))
theorem s70_93 (d : Nat) (h : gd_H) (w0 : Value) (w1 : Value) (w2 : Value) (w3 : Value) (w4 : Value) : go gd_P0 d 70 93 [w0, w1, w2, w3, w4] [] h =
    some (.inl (some (.int (-1))), h) :=
  (x70_93 ..).trans ((x70_94 ..))
theorem r70 (d : Nat) (h : gd_H) (v0 : Nat) (v1 : Int32) (v2 : Int32) : run gd_P0 (d + 1) 70 [.ref v0, .int v1, .int v2] h = go gd_P0 d 70 0 [.ref v0, .int v1, .int v2, .null, .null] [] h := run_succ gd_P0 d 70 [.ref v0, .int v1, .int v2] h (Nat.le_of_ble_eq_true rfl)
theorem x71_0 (d : Nat) (L st : List Value) (h : gd_H) : go gd_P0 d 71 0 L st h = gs gd_P0 d 71 0 L (i_ald 0 1 L st h) := go_eq gd_P0 d 71 0 L st h
theorem x71_1 (d : Nat) (L st : List Value) (h : gd_H) : go gd_P0 d 71 1 L st h = gs gd_P0 d 71 1 L (i_ild 1 2 L st h) := go_eq gd_P0 d 71 1 L st h
theorem x71_2 (d : Nat) (L st : List Value) (h : gd_H) : go gd_P0 d 71 2 L st h = gs gd_P0 d 71 2 L (i_cV 64 1 1 5 L st h) := go_eq gd_P0 d 71 2 L st h
theorem x71_5 (d : Nat) (L st : List Value) (h : gd_H) : go gd_P0 d 71 5 L st h = gs gd_P0 d 71 5 L (i_msk [true, true] (i_ald 0 6) L st h) := go_eq gd_P0 d 71 5 L st h
theorem x71_6 (d : Nat) (L st : List Value) (h : gd_H) : go gd_P0 d 71 6 L st h = gs gd_P0 d 71 6 L (i_getR 1 5 9 L st h) := go_eq gd_P0 d 71 6 L st h
theorem x71_9 (d : Nat) (L st : List Value) (h : gd_H) : go gd_P0 d 71 9 L st h = gs gd_P0 d 71 9 L (i_ald 0 10 L st h) := go_eq gd_P0 d 71 9 L st h
theorem x71_10 (d : Nat) (L st : List Value) (h : gd_H) : go gd_P0 d 71 10 L st h = gs gd_P0 d 71 10 L (i_getR 1 2 13 L st h) := go_eq gd_P0 d 71 10 L st h
theorem x71_13 (d : Nat) (L st : List Value) (h : gd_H) : go gd_P0 d 71 13 L st h = gs gd_P0 d 71 13 L (i_cV 145 0 3 16 L st h) := go_eq gd_P0 d 71 13 L st h
theorem x71_16 (d : Nat) (L st : List Value) (h : gd_H) : go gd_P0 d 71 16 L st h = gs gd_P0 d 71 16 L (i_msk [true, true] (i_cV 173 1 7 19) L st h) := go_eq gd_P0 d 71 16 L st h
theorem x71_19 (d : Nat) (L st : List Value) (h : gd_H) : go gd_P0 d 71 19 L st h = gs gd_P0 d 71 19 L (i_msk [true, true] (i_ald 0 20) L st h) := go_eq gd_P0 d 71 19 L st h
theorem x71_20 (d : Nat) (L st : List Value) (h : gd_H) : go gd_P0 d 71 20 L st h = gs gd_P0 d 71 20 L (i_getR 1 5 23 L st h) := go_eq gd_P0 d 71 20 L st h
theorem x71_23 (d : Nat) (L st : List Value) (h : gd_H) : go gd_P0 d 71 23 L st h = gs gd_P0 d 71 23 L (i_getR 7 1 26 L st h) := go_eq gd_P0 d 71 23 L st h
theorem x71_26 (d : Nat) (L st : List Value) (h : gd_H) : go gd_P0 d 71 26 L st h = gs gd_P0 d 71 26 L (i_ild 1 27 L st h) := go_eq gd_P0 d 71 26 L st h
theorem x71_27 (d : Nat) (L st : List Value) (h : gd_H) : go gd_P0 d 71 27 L st h = gs gd_P0 d 71 27 L (i_aldI 31 28 L st h) := go_eq gd_P0 d 71 27 L st h
theorem x71_28 (d : Nat) (L st : List Value) (h : gd_H) : go gd_P0 d 71 28 L st h = gs gd_P0 d 71 28 L (i_iret L st h) := go_eq gd_P0 d 71 28 L st h
theorem s71_0 (d : Nat) (h : gd_H) (v0 : Nat) (v1 : Int32) : go gd_P0 d 71 0 [.ref v0, .int v1] [] h =
    if gT h v0 = 1 then gc gd_P0 d 71 2 5 [.ref v0, .int v1] [] (run gd_P0 d 64 [.ref v0, .int v1] h) else none :=
  (x71_0 ..).trans ((x71_1 ..).trans ((x71_2 ..).trans ((gs_if ..).trans ((ia9 (by simp)).trans (ic9 rfl rfl)))))
theorem s71_5 (d : Nat) (h : gd_H) (v0 : Nat) (v1 : Int32) : go gd_P0 d 71 5 [.ref v0, .int v1] [] h =
    if gT h v0 = 1 then if gT h v0 = 1 then if gT h (gR h v0 2) = 3 then gc gd_P0 d 71 13 16 [.ref v0, .int v1] [.ref (gR h v0 5)] (run gd_P0 d 145 [.ref (gR h v0 2)] h) else none else none else none :=
  (x71_5 ..).trans ((x71_6 ..).trans ((gs_if ..).trans (ic9 ((x71_9 ..).trans ((x71_10 ..).trans ((gs_if ..).trans (ic9 ((x71_13 ..).trans ((gs_if ..).trans ((ia9 (by simp)).trans (ic9 rfl rfl)))) rfl)))) rfl)))
theorem s71_16 (d : Nat) (h : gd_H) (v0 : Nat) (v1 : Int32) (z0 : Nat) (z1 : Nat) : go gd_P0 d 71 16 [.ref v0, .int v1] [.ref z0, .ref z1] h =
    if gT h z1 = 7 then gc gd_P0 d 71 16 19 [.ref v0, .int v1] [] (run gd_P0 d 173 [.ref z1, .ref z0] h) else none :=
  (x71_16 ..).trans ((gs_nif ..).trans ((ia9 (by simp)).trans (ic9 rfl rfl)))
theorem s71_19 (d : Nat) (h : gd_H) (v0 : Nat) (v1 : Int32) : go gd_P0 d 71 19 [.ref v0, .int v1] [] h =
    if gT h v0 = 1 then if gT h (gR h v0 5) = 7 then if gT h (gR h (gR h v0 5) 1) = 31 ∧ ¬ (v1 < 0 ∨ gL h (gR h (gR h v0 5) 1) ≤ Int32.toNatClampNeg v1) then some (.inl (some (.int (gI h (gR h (gR h v0 5) 1) (Int32.toNatClampNeg v1)))), h) else none else none else none :=
  (x71_19 ..).trans ((x71_20 ..).trans ((gs_if ..).trans (ic9 ((x71_23 ..).trans ((gs_if ..).trans (ic9 ((x71_26 ..).trans ((x71_27 ..).trans ((gs_if ..).trans (ic9 ((x71_28 ..)) rfl)))) rfl))) rfl)))
theorem r71 (d : Nat) (h : gd_H) (v0 : Nat) (v1 : Int32) : run gd_P0 (d + 1) 71 [.ref v0, .int v1] h = go gd_P0 d 71 0 [.ref v0, .int v1] [] h := run_succ gd_P0 d 71 [.ref v0, .int v1] h (Nat.le_of_ble_eq_true rfl)
theorem x72_0 (d : Nat) (L st : List Value) (h : gd_H) : go gd_P0 d 72 0 L st h = gs gd_P0 d 72 0 L (i_ald 0 1 L st h) := go_eq gd_P0 d 72 0 L st h
theorem x72_1 (d : Nat) (L st : List Value) (h : gd_H) : go gd_P0 d 72 1 L st h = gs gd_P0 d 72 1 L (i_ild 1 2 L st h) := go_eq gd_P0 d 72 1 L st h
theorem x72_2 (d : Nat) (L st : List Value) (h : gd_H) : go gd_P0 d 72 2 L st h = gs gd_P0 d 72 2 L (i_psh (.int 0) 3 L st h) := go_eq gd_P0 d 72 2 L st h
theorem x72_3 (d : Nat) (L st : List Value) (h : gd_H) : go gd_P0 d 72 3 L st h = gs gd_P0 d 72 3 L (i_psh (.int 2147483647) 6 L st h) := go_eq gd_P0 d 72 3 L st h
theorem x72_6 (d : Nat) (L st : List Value) (h : gd_H) : go gd_P0 d 72 6 L st h = gs gd_P0 d 72 6 L (i_cV 53 3 1 9 L st h) := go_eq gd_P0 d 72 6 L st h
theorem x72_9 (d : Nat) (L st : List Value) (h : gd_H) : go gd_P0 d 72 9 L st h = gs gd_P0 d 72 9 L (i_msk [true, true] (i_ild 1 10) L st h) := go_eq gd_P0 d 72 9 L st h
theorem x72_10 (d : Nat) (L st : List Value) (h : gd_H) : go gd_P0 d 72 10 L st h = gs gd_P0 d 72 10 L (i_ald 0 11 L st h) := go_eq gd_P0 d 72 10 L st h
theorem x72_11 (d : Nat) (L st : List Value) (h : gd_H) : go gd_P0 d 72 11 L st h = gs gd_P0 d 72 11 L (i_cV 47 0 1 14 L st h) := go_eq gd_P0 d 72 11 L st h
theorem x72_14 (d : Nat) (L st : List Value) (h : gd_H) : go gd_P0 d 72 14 L st h = gs gd_P0 d 72 14 L (i_msk [true, true] (i_icge 26 17) L st h) := go_eq gd_P0 d 72 14 L st h
theorem x72_17 (d : Nat) (L st : List Value) (h : gd_H) : go gd_P0 d 72 17 L st h = gs gd_P0 d 72 17 L (i_ald 0 18 L st h) := go_eq gd_P0 d 72 17 L st h
theorem x72_18 (d : Nat) (L st : List Value) (h : gd_H) : go gd_P0 d 72 18 L st h = gs gd_P0 d 72 18 L (i_getR 1 13 21 L st h) := go_eq gd_P0 d 72 18 L st h
theorem x72_21 (d : Nat) (L st : List Value) (h : gd_H) : go gd_P0 d 72 21 L st h = gs gd_P0 d 72 21 L (i_ild 1 22 L st h) := go_eq gd_P0 d 72 21 L st h
theorem x72_22 (d : Nat) (L st : List Value) (h : gd_H) : go gd_P0 d 72 22 L st h = gs gd_P0 d 72 22 L (i_aldI 31 23 L st h) := go_eq gd_P0 d 72 22 L st h
theorem x72_23 (d : Nat) (L st : List Value) (h : gd_H) : go gd_P0 d 72 23 L st h = gs gd_P0 d 72 23 L (i_goto 27 L st h) := go_eq gd_P0 d 72 23 L st h
theorem x72_26 (d : Nat) (L st : List Value) (h : gd_H) : go gd_P0 d 72 26 L st h = gs gd_P0 d 72 26 L (i_psh (.int (-1)) 27 L st h) := go_eq gd_P0 d 72 26 L st h
theorem x72_27 (d : Nat) (L st : List Value) (h : gd_H) : go gd_P0 d 72 27 L st h = gs gd_P0 d 72 27 L (i_msk [false, false] (i_iret) L st h) := go_eq gd_P0 d 72 27 L st h
theorem s72_0 (d : Nat) (h : gd_H) (v0 : Nat) (v1 : Int32) : go gd_P0 d 72 0 [.ref v0, .int v1] [] h =
    if gT h v0 = 1 then gc gd_P0 d 72 6 9 [.ref v0, .int v1] [] (run gd_P0 d 53 [.ref v0, .int v1, .int 0, .int 2147483647] h) else none :=
  (x72_0 ..).trans ((x72_1 ..).trans ((x72_2 ..).trans ((x72_3 ..).trans ((x72_6 ..).trans ((gs_if ..).trans ((ia9 (by simp)).trans (ic9 rfl rfl)))))))
theorem s72_9 (d : Nat) (h : gd_H) (v0 : Nat) (v1 : Int32) : go gd_P0 d 72 9 [.ref v0, .int v1] [] h =
    if gT h v0 = 1 then gc gd_P0 d 72 11 14 [.ref v0, .int v1] [.int v1] (run gd_P0 d 47 [.ref v0] h) else none :=
  (x72_9 ..).trans ((x72_10 ..).trans ((x72_11 ..).trans ((gs_if ..).trans ((ia9 (by simp)).trans (ic9 rfl rfl)))))
theorem s72_14 (d : Nat) (h : gd_H) (v0 : Nat) (v1 : Int32) (z0 : Int32) (z1 : Int32) : go gd_P0 d 72 14 [.ref v0, .int v1] [.int z0, .int z1] h =
    if z0 ≤ z1 then go gd_P0 d 72 27 [.ref v0, .int v1] [.int (-1)] h else if gT h v0 = 1 then if gT h (gR h v0 13) = 31 ∧ ¬ (v1 < 0 ∨ gL h (gR h v0 13) ≤ Int32.toNatClampNeg v1) then go gd_P0 d 72 27 [.ref v0, .int v1] [.int (gI h (gR h v0 13) (Int32.toNatClampNeg v1))] h else none else none :=
  (x72_14 ..).trans ((gs_nif ..).trans (ic9 ((x72_26 ..)) ((x72_17 ..).trans ((x72_18 ..).trans ((gs_if ..).trans (ic9 ((x72_21 ..).trans ((x72_22 ..).trans ((gs_if ..).trans (ic9 ((x72_23 ..)) rfl)))) rfl))))))
theorem s72_27 (d : Nat) (h : gd_H) (w0 : Value) (w1 : Value) (z0 : Int32) : go gd_P0 d 72 27 [w0, w1] [.int z0] h =
    some (.inl (some (.int z0)), h) :=
  (x72_27 ..)
theorem r72 (d : Nat) (h : gd_H) (v0 : Nat) (v1 : Int32) : run gd_P0 (d + 1) 72 [.ref v0, .int v1] h = go gd_P0 d 72 0 [.ref v0, .int v1] [] h := run_succ gd_P0 d 72 [.ref v0, .int v1] h (Nat.le_of_ble_eq_true rfl)
theorem x73_0 (d : Nat) (L st : List Value) (h : gd_H) : go gd_P0 d 73 0 L st h = gs gd_P0 d 73 0 L (i_ald 0 1 L st h) := go_eq gd_P0 d 73 0 L st h
theorem x73_1 (d : Nat) (L st : List Value) (h : gd_H) : go gd_P0 d 73 1 L st h = gs gd_P0 d 73 1 L (i_ild 1 2 L st h) := go_eq gd_P0 d 73 1 L st h
theorem x73_2 (d : Nat) (L st : List Value) (h : gd_H) : go gd_P0 d 73 2 L st h = gs gd_P0 d 73 2 L (i_cV 64 1 1 5 L st h) := go_eq gd_P0 d 73 2 L st h
theorem x73_5 (d : Nat) (L st : List Value) (h : gd_H) : go gd_P0 d 73 5 L st h = gs gd_P0 d 73 5 L (i_msk [true, true, true, false, false, false] (i_ald 0 6) L st h) := go_eq gd_P0 d 73 5 L st h
theorem x73_6 (d : Nat) (L st : List Value) (h : gd_H) : go gd_P0 d 73 6 L st h = gs gd_P0 d 73 6 L (i_ild 2 7 L st h) := go_eq gd_P0 d 73 6 L st h
theorem x73_7 (d : Nat) (L st : List Value) (h : gd_H) : go gd_P0 d 73 7 L st h = gs gd_P0 d 73 7 L (i_psh (.int 0) 8 L st h) := go_eq gd_P0 d 73 7 L st h
theorem x73_8 (d : Nat) (L st : List Value) (h : gd_H) : go gd_P0 d 73 8 L st h = gs gd_P0 d 73 8 L (i_psh (.int 1) 9 L st h) := go_eq gd_P0 d 73 8 L st h
theorem x73_9 (d : Nat) (L st : List Value) (h : gd_H) : go gd_P0 d 73 9 L st h = gs gd_P0 d 73 9 L (i_cV 53 3 1 12 L st h) := go_eq gd_P0 d 73 9 L st h
theorem x73_12 (d : Nat) (L st : List Value) (h : gd_H) : go gd_P0 d 73 12 L st h = gs gd_P0 d 73 12 L (i_msk [true, true, true, false, false, false] (i_psh (.int 0) 13) L st h) := go_eq gd_P0 d 73 12 L st h
theorem x73_13 (d : Nat) (L st : List Value) (h : gd_H) : go gd_P0 d 73 13 L st h = gs gd_P0 d 73 13 L (i_ist 3 14 L st h) := go_eq gd_P0 d 73 13 L st h
theorem x73_14 (d : Nat) (L st : List Value) (h : gd_H) : go gd_P0 d 73 14 L st h = gs gd_P0 d 73 14 L (i_psh (.int (-1)) 15 L st h) := go_eq gd_P0 d 73 14 L st h
theorem x73_15 (d : Nat) (L st : List Value) (h : gd_H) : go gd_P0 d 73 15 L st h = gs gd_P0 d 73 15 L (i_ist 4 17 L st h) := go_eq gd_P0 d 73 15 L st h
theorem x73_17 (d : Nat) (L st : List Value) (h : gd_H) : go gd_P0 d 73 17 L st h = gs gd_P0 d 73 17 L (i_psh (.int 0) 18 L st h) := go_eq gd_P0 d 73 17 L st h
theorem x73_18 (d : Nat) (L st : List Value) (h : gd_H) : go gd_P0 d 73 18 L st h = gs gd_P0 d 73 18 L (i_ist 5 20 L st h) := go_eq gd_P0 d 73 18 L st h
theorem x73_20 (d : Nat) (L st : List Value) (h : gd_H) : go gd_P0 d 73 20 L st h = gs gd_P0 d 73 20 L (i_msk [true, true, true, true, true, true] (i_ild 5 22) L st h) := go_eq gd_P0 d 73 20 L st h
theorem x73_22 (d : Nat) (L st : List Value) (h : gd_H) : go gd_P0 d 73 22 L st h = gs gd_P0 d 73 22 L (i_psh (.int 100) 24 L st h) := go_eq gd_P0 d 73 22 L st h
theorem x73_24 (d : Nat) (L st : List Value) (h : gd_H) : go gd_P0 d 73 24 L st h = gs gd_P0 d 73 24 L (i_icge 62 27 L st h) := go_eq gd_P0 d 73 24 L st h
theorem x73_27 (d : Nat) (L st : List Value) (h : gd_H) : go gd_P0 d 73 27 L st h = gs gd_P0 d 73 27 L (i_ald 0 28 L st h) := go_eq gd_P0 d 73 27 L st h
theorem x73_28 (d : Nat) (L st : List Value) (h : gd_H) : go gd_P0 d 73 28 L st h = gs gd_P0 d 73 28 L (i_ild 1 29 L st h) := go_eq gd_P0 d 73 28 L st h
theorem x73_29 (d : Nat) (L st : List Value) (h : gd_H) : go gd_P0 d 73 29 L st h = gs gd_P0 d 73 29 L (i_ild 5 31 L st h) := go_eq gd_P0 d 73 29 L st h
theorem x73_31 (d : Nat) (L st : List Value) (h : gd_H) : go gd_P0 d 73 31 L st h = gs gd_P0 d 73 31 L (i_psh (.int 10) 33 L st h) := go_eq gd_P0 d 73 31 L st h
theorem x73_33 (d : Nat) (L st : List Value) (h : gd_H) : go gd_P0 d 73 33 L st h = gs gd_P0 d 73 33 L (i_idiv 34 L st h) := go_eq gd_P0 d 73 33 L st h
theorem x73_34 (d : Nat) (L st : List Value) (h : gd_H) : go gd_P0 d 73 34 L st h = gs gd_P0 d 73 34 L (i_ild 5 36 L st h) := go_eq gd_P0 d 73 34 L st h
theorem x73_36 (d : Nat) (L st : List Value) (h : gd_H) : go gd_P0 d 73 36 L st h = gs gd_P0 d 73 36 L (i_psh (.int 10) 38 L st h) := go_eq gd_P0 d 73 36 L st h
theorem x73_38 (d : Nat) (L st : List Value) (h : gd_H) : go gd_P0 d 73 38 L st h = gs gd_P0 d 73 38 L (i_irem 39 L st h) := go_eq gd_P0 d 73 38 L st h
theorem x73_39 (d : Nat) (L st : List Value) (h : gd_H) : go gd_P0 d 73 39 L st h = gs gd_P0 d 73 39 L (i_cV 74 3 1 42 L st h) := go_eq gd_P0 d 73 39 L st h
theorem x73_42 (d : Nat) (L st : List Value) (h : gd_H) : go gd_P0 d 73 42 L st h = gs gd_P0 d 73 42 L (i_msk [true, true, true, true, true, true] (i_ifeq 56 45) L st h) := go_eq gd_P0 d 73 42 L st h
theorem x73_45 (d : Nat) (L st : List Value) (h : gd_H) : go gd_P0 d 73 45 L st h = gs gd_P0 d 73 45 L (i_ild 3 46 L st h) := go_eq gd_P0 d 73 45 L st h
theorem x73_46 (d : Nat) (L st : List Value) (h : gd_H) : go gd_P0 d 73 46 L st h = gs gd_P0 d 73 46 L (i_inc 3 1 49 L st h) := go_eq gd_P0 d 73 46 L st h
theorem x73_49 (d : Nat) (L st : List Value) (h : gd_H) : go gd_P0 d 73 49 L st h = gs gd_P0 d 73 49 L (i_ifne 56 52 L st h) := go_eq gd_P0 d 73 49 L st h
theorem x73_52 (d : Nat) (L st : List Value) (h : gd_H) : go gd_P0 d 73 52 L st h = gs gd_P0 d 73 52 L (i_ild 5 54 L st h) := go_eq gd_P0 d 73 52 L st h
theorem x73_54 (d : Nat) (L st : List Value) (h : gd_H) : go gd_P0 d 73 54 L st h = gs gd_P0 d 73 54 L (i_ist 4 56 L st h) := go_eq gd_P0 d 73 54 L st h
theorem x73_56 (d : Nat) (L st : List Value) (h : gd_H) : go gd_P0 d 73 56 L st h = gs gd_P0 d 73 56 L (i_msk [true, true, true, true, true, true] (i_inc 5 1 59) L st h) := go_eq gd_P0 d 73 56 L st h
theorem x73_59 (d : Nat) (L st : List Value) (h : gd_H) : go gd_P0 d 73 59 L st h = gs gd_P0 d 73 59 L (i_goto 20 L st h) := go_eq gd_P0 d 73 59 L st h
theorem x73_62 (d : Nat) (L st : List Value) (h : gd_H) : go gd_P0 d 73 62 L st h = gs gd_P0 d 73 62 L (i_ild 2 63 L st h) := go_eq gd_P0 d 73 62 L st h
theorem x73_63 (d : Nat) (L st : List Value) (h : gd_H) : go gd_P0 d 73 63 L st h = gs gd_P0 d 73 63 L (i_ifne 70 66 L st h) := go_eq gd_P0 d 73 63 L st h
theorem x73_66 (d : Nat) (L st : List Value) (h : gd_H) : go gd_P0 d 73 66 L st h = gs gd_P0 d 73 66 L (i_ild 3 67 L st h) := go_eq gd_P0 d 73 66 L st h
theorem x73_67 (d : Nat) (L st : List Value) (h : gd_H) : go gd_P0 d 73 67 L st h = gs gd_P0 d 73 67 L (i_goto 72 L st h) := go_eq gd_P0 d 73 67 L st h
theorem x73_70 (d : Nat) (L st : List Value) (h : gd_H) : go gd_P0 d 73 70 L st h = gs gd_P0 d 73 70 L (i_ild 4 72 L st h) := go_eq gd_P0 d 73 70 L st h
theorem x73_72 (d : Nat) (L st : List Value) (h : gd_H) : go gd_P0 d 73 72 L st h = gs gd_P0 d 73 72 L (i_msk [false, false, false, false, false, false] (i_iret) L st h) := go_eq gd_P0 d 73 72 L st h
theorem s73_0 (d : Nat) (h : gd_H) (v0 : Nat) (v1 : Int32) (v2 : Int32) : go gd_P0 d 73 0 [.ref v0, .int v1, .int v2, .null, .null, .null] [] h =
    if gT h v0 = 1 then gc gd_P0 d 73 2 5 [.ref v0, .int v1, .int v2, .null, .null, .null] [] (run gd_P0 d 64 [.ref v0, .int v1] h) else none :=
  (x73_0 ..).trans ((x73_1 ..).trans ((x73_2 ..).trans ((gs_if ..).trans ((ia9 (by simp)).trans (ic9 rfl rfl)))))
theorem s73_5 (d : Nat) (h : gd_H) (v0 : Nat) (v1 : Int32) (v2 : Int32) (w3 : Value) (w4 : Value) (w5 : Value) : go gd_P0 d 73 5 [.ref v0, .int v1, .int v2, w3, w4, w5] [] h =
    if gT h v0 = 1 then gc gd_P0 d 73 9 12 [.ref v0, .int v1, .int v2, .null, .null, .null] [] (run gd_P0 d 53 [.ref v0, .int v2, .int 0, .int 1] h) else none :=
  (x73_5 ..).trans ((x73_6 ..).trans ((x73_7 ..).trans ((x73_8 ..).trans ((x73_9 ..).trans ((gs_if ..).trans ((ia9 (by simp)).trans (ic9 rfl rfl)))))))
theorem s73_12 (d : Nat) (h : gd_H) (v0 : Nat) (v1 : Int32) (v2 : Int32) (w3 : Value) (w4 : Value) (w5 : Value) : go gd_P0 d 73 12 [.ref v0, .int v1, .int v2, w3, w4, w5] [] h =
    go gd_P0 d 73 20 [.ref v0, .int v1, .int v2, .int 0, .int (-1), .int 0] [] h :=
  (x73_12 ..).trans ((x73_13 ..).trans ((x73_14 ..).trans ((x73_15 ..).trans ((x73_17 ..).trans ((x73_18 ..))))))
theorem s73_20 (d : Nat) (h : gd_H) (v0 : Nat) (v1 : Int32) (v2 : Int32) (v3 : Int32) (v4 : Int32) (v5 : Int32) : go gd_P0 d 73 20 [.ref v0, .int v1, .int v2, .int v3, .int v4, .int v5] [] h =
    if 100 ≤ v5 then if v2 = 0 then go gd_P0 d 73 72 [.ref v0, .int v1, .int v2, .int v3, .int v4, .int v5] [.int v3] h else go gd_P0 d 73 72 [.ref v0, .int v1, .int v2, .int v3, .int v4, .int v5] [.int v4] h else if gT h v0 = 1 then gc gd_P0 d 73 39 42 [.ref v0, .int v1, .int v2, .int v3, .int v4, .int v5] [] (run gd_P0 d 74 [.ref v0, .int v1, .int (v5 / 10), .int (v5 - v5 / 10 * 10)] h) else none :=
  (x73_20 ..).trans ((x73_22 ..).trans ((x73_24 ..).trans ((gs_if ..).trans (ic9 ((x73_62 ..).trans ((x73_63 ..).trans ((gs_if ..).trans (ic9 ((x73_66 ..).trans ((x73_67 ..))) ((x73_70 ..)))))) ((x73_27 ..).trans ((x73_28 ..).trans ((x73_29 ..).trans ((x73_31 ..).trans ((x73_33 ..).trans ((gs_div (y := (10 : Int32)) (by decide)).trans ((x73_34 ..).trans ((x73_36 ..).trans ((x73_38 ..).trans ((gs_rem (y := (10 : Int32)) (by decide)).trans ((x73_39 ..).trans ((gs_if ..).trans ((ia9 (by simp)).trans (ic9 rfl rfl))))))))))))))))))
theorem s73_42 (d : Nat) (h : gd_H) (v0 : Nat) (v1 : Int32) (v2 : Int32) (v3 : Int32) (v4 : Int32) (v5 : Int32) (z0 : Int32) : go gd_P0 d 73 42 [.ref v0, .int v1, .int v2, .int v3, .int v4, .int v5] [.int z0] h =
    if z0 = 0 then go gd_P0 d 73 56 [.ref v0, .int v1, .int v2, .int v3, .int v4, .int v5] [] h else if v3 = 0 then go gd_P0 d 73 56 [.ref v0, .int v1, .int v2, .int (v3 + 1), .int v5, .int v5] [] h else go gd_P0 d 73 56 [.ref v0, .int v1, .int v2, .int (v3 + 1), .int v4, .int v5] [] h :=
  (x73_42 ..).trans ((gs_nif ..).trans (ic9 (rfl) ((x73_45 ..).trans ((x73_46 ..).trans ((x73_49 ..).trans ((gs_if ..).trans (ic9 ((x73_52 ..).trans ((x73_54 ..))) (rfl))))))))
theorem s73_56 (d : Nat) (h : gd_H) (v0 : Nat) (v1 : Int32) (v2 : Int32) (v3 : Int32) (v4 : Int32) (v5 : Int32) : go gd_P0 d 73 56 [.ref v0, .int v1, .int v2, .int v3, .int v4, .int v5] [] h =
    go gd_P0 d 73 20 [.ref v0, .int v1, .int v2, .int v3, .int v4, .int (v5 + 1)] [] h :=
  (x73_56 ..).trans ((x73_59 ..))
theorem s73_72 (d : Nat) (h : gd_H) (w0 : Value) (w1 : Value) (w2 : Value) (w3 : Value) (w4 : Value) (w5 : Value) (z0 : Int32) : go gd_P0 d 73 72 [w0, w1, w2, w3, w4, w5] [.int z0] h =
    some (.inl (some (.int z0)), h) :=
  (x73_72 ..)
theorem r73 (d : Nat) (h : gd_H) (v0 : Nat) (v1 : Int32) (v2 : Int32) : run gd_P0 (d + 1) 73 [.ref v0, .int v1, .int v2] h = go gd_P0 d 73 0 [.ref v0, .int v1, .int v2, .null, .null, .null] [] h := run_succ gd_P0 d 73 [.ref v0, .int v1, .int v2] h (Nat.le_of_ble_eq_true rfl)
theorem x74_0 (d : Nat) (L st : List Value) (h : gd_H) : go gd_P0 d 74 0 L st h = gs gd_P0 d 74 0 L (i_ald 0 1 L st h) := go_eq gd_P0 d 74 0 L st h
theorem x74_1 (d : Nat) (L st : List Value) (h : gd_H) : go gd_P0 d 74 1 L st h = gs gd_P0 d 74 1 L (i_cV 68 0 1 4 L st h) := go_eq gd_P0 d 74 1 L st h
theorem x74_4 (d : Nat) (L st : List Value) (h : gd_H) : go gd_P0 d 74 4 L st h = gs gd_P0 d 74 4 L (i_msk [true, true, true, true, false] (i_pop 5) L st h) := go_eq gd_P0 d 74 4 L st h
theorem x74_5 (d : Nat) (L st : List Value) (h : gd_H) : go gd_P0 d 74 5 L st h = gs gd_P0 d 74 5 L (i_ald 0 6 L st h) := go_eq gd_P0 d 74 5 L st h
theorem x74_6 (d : Nat) (L st : List Value) (h : gd_H) : go gd_P0 d 74 6 L st h = gs gd_P0 d 74 6 L (i_getR 1 4 9 L st h) := go_eq gd_P0 d 74 6 L st h
theorem x74_9 (d : Nat) (L st : List Value) (h : gd_H) : go gd_P0 d 74 9 L st h = gs gd_P0 d 74 9 L (i_getR 4 2 12 L st h) := go_eq gd_P0 d 74 9 L st h
theorem x74_12 (d : Nat) (L st : List Value) (h : gd_H) : go gd_P0 d 74 12 L st h = gs gd_P0 d 74 12 L (i_ild 1 13 L st h) := go_eq gd_P0 d 74 12 L st h
theorem x74_13 (d : Nat) (L st : List Value) (h : gd_H) : go gd_P0 d 74 13 L st h = gs gd_P0 d 74 13 L (i_ild 2 14 L st h) := go_eq gd_P0 d 74 13 L st h
theorem x74_14 (d : Nat) (L st : List Value) (h : gd_H) : go gd_P0 d 74 14 L st h = gs gd_P0 d 74 14 L (i_astI 15 L st h) := go_eq gd_P0 d 74 14 L st h
theorem x74_15 (d : Nat) (L st : List Value) (h : gd_H) : go gd_P0 d 74 15 L st h = gs gd_P0 d 74 15 L (i_ald 0 16 L st h) := go_eq gd_P0 d 74 15 L st h
theorem x74_16 (d : Nat) (L st : List Value) (h : gd_H) : go gd_P0 d 74 16 L st h = gs gd_P0 d 74 16 L (i_getR 1 4 19 L st h) := go_eq gd_P0 d 74 16 L st h
theorem x74_19 (d : Nat) (L st : List Value) (h : gd_H) : go gd_P0 d 74 19 L st h = gs gd_P0 d 74 19 L (i_ild 3 20 L st h) := go_eq gd_P0 d 74 19 L st h
theorem x74_20 (d : Nat) (L st : List Value) (h : gd_H) : go gd_P0 d 74 20 L st h = gs gd_P0 d 74 20 L (i_putI 4 13 23 L st h) := go_eq gd_P0 d 74 20 L st h
theorem x74_23 (d : Nat) (L st : List Value) (h : gd_H) : go gd_P0 d 74 23 L st h = gs gd_P0 d 74 23 L (i_psh (.int 1) 24 L st h) := go_eq gd_P0 d 74 23 L st h
theorem x74_24 (d : Nat) (L st : List Value) (h : gd_H) : go gd_P0 d 74 24 L st h = gs gd_P0 d 74 24 L (i_ist 4 26 L st h) := go_eq gd_P0 d 74 24 L st h
theorem x74_26 (d : Nat) (L st : List Value) (h : gd_H) : go gd_P0 d 74 26 L st h = gs gd_P0 d 74 26 L (i_msk [true, true, false, false, true] (i_ild 4 28) L st h) := go_eq gd_P0 d 74 26 L st h
theorem x74_28 (d : Nat) (L st : List Value) (h : gd_H) : go gd_P0 d 74 28 L st h = gs gd_P0 d 74 28 L (i_psh (.int 12) 30 L st h) := go_eq gd_P0 d 74 28 L st h
theorem x74_30 (d : Nat) (L st : List Value) (h : gd_H) : go gd_P0 d 74 30 L st h = gs gd_P0 d 74 30 L (i_icgt 62 33 L st h) := go_eq gd_P0 d 74 30 L st h
theorem x74_33 (d : Nat) (L st : List Value) (h : gd_H) : go gd_P0 d 74 33 L st h = gs gd_P0 d 74 33 L (i_ald 0 34 L st h) := go_eq gd_P0 d 74 33 L st h
theorem x74_34 (d : Nat) (L st : List Value) (h : gd_H) : go gd_P0 d 74 34 L st h = gs gd_P0 d 74 34 L (i_getR 1 4 37 L st h) := go_eq gd_P0 d 74 34 L st h
theorem x74_37 (d : Nat) (L st : List Value) (h : gd_H) : go gd_P0 d 74 37 L st h = gs gd_P0 d 74 37 L (i_cV 152 0 4 40 L st h) := go_eq gd_P0 d 74 37 L st h
theorem x74_40 (d : Nat) (L st : List Value) (h : gd_H) : go gd_P0 d 74 40 L st h = gs gd_P0 d 74 40 L (i_msk [true, true, false, false, true] (i_ald 0 41) L st h) := go_eq gd_P0 d 74 40 L st h
theorem x74_41 (d : Nat) (L st : List Value) (h : gd_H) : go gd_P0 d 74 41 L st h = gs gd_P0 d 74 41 L (i_getR 1 10 44 L st h) := go_eq gd_P0 d 74 41 L st h
theorem x74_44 (d : Nat) (L st : List Value) (h : gd_H) : go gd_P0 d 74 44 L st h = gs gd_P0 d 74 44 L (i_ild 4 46 L st h) := go_eq gd_P0 d 74 44 L st h
theorem x74_46 (d : Nat) (L st : List Value) (h : gd_H) : go gd_P0 d 74 46 L st h = gs gd_P0 d 74 46 L (i_ald 0 47 L st h) := go_eq gd_P0 d 74 46 L st h
theorem x74_47 (d : Nat) (L st : List Value) (h : gd_H) : go gd_P0 d 74 47 L st h = gs gd_P0 d 74 47 L (i_getR 1 4 50 L st h) := go_eq gd_P0 d 74 47 L st h
theorem x74_50 (d : Nat) (L st : List Value) (h : gd_H) : go gd_P0 d 74 50 L st h = gs gd_P0 d 74 50 L (i_getR 4 1 53 L st h) := go_eq gd_P0 d 74 50 L st h
theorem x74_53 (d : Nat) (L st : List Value) (h : gd_H) : go gd_P0 d 74 53 L st h = gs gd_P0 d 74 53 L (i_ild 1 54 L st h) := go_eq gd_P0 d 74 53 L st h
theorem x74_54 (d : Nat) (L st : List Value) (h : gd_H) : go gd_P0 d 74 54 L st h = gs gd_P0 d 74 54 L (i_aldI 31 55 L st h) := go_eq gd_P0 d 74 54 L st h
theorem x74_55 (d : Nat) (L st : List Value) (h : gd_H) : go gd_P0 d 74 55 L st h = gs gd_P0 d 74 55 L (i_astI 56 L st h) := go_eq gd_P0 d 74 55 L st h
theorem x74_56 (d : Nat) (L st : List Value) (h : gd_H) : go gd_P0 d 74 56 L st h = gs gd_P0 d 74 56 L (i_inc 4 1 59 L st h) := go_eq gd_P0 d 74 56 L st h
theorem x74_59 (d : Nat) (L st : List Value) (h : gd_H) : go gd_P0 d 74 59 L st h = gs gd_P0 d 74 59 L (i_goto 26 L st h) := go_eq gd_P0 d 74 59 L st h
theorem x74_62 (d : Nat) (L st : List Value) (h : gd_H) : go gd_P0 d 74 62 L st h = gs gd_P0 d 74 62 L (i_psh (.int 0) 63 L st h) := go_eq gd_P0 d 74 62 L st h
theorem x74_63 (d : Nat) (L st : List Value) (h : gd_H) : go gd_P0 d 74 63 L st h = gs gd_P0 d 74 63 L (i_ist 4 65 L st h) := go_eq gd_P0 d 74 63 L st h
theorem x74_65 (d : Nat) (L st : List Value) (h : gd_H) : go gd_P0 d 74 65 L st h = gs gd_P0 d 74 65 L (i_msk [true, false, false, false, true] (i_ild 4 67) L st h) := go_eq gd_P0 d 74 65 L st h
theorem x74_67 (d : Nat) (L st : List Value) (h : gd_H) : go gd_P0 d 74 67 L st h = gs gd_P0 d 74 67 L (i_ald 0 68 L st h) := go_eq gd_P0 d 74 67 L st h
theorem x74_68 (d : Nat) (L st : List Value) (h : gd_H) : go gd_P0 d 74 68 L st h = gs gd_P0 d 74 68 L (i_getI 1 18 71 L st h) := go_eq gd_P0 d 74 68 L st h
theorem x74_71 (d : Nat) (L st : List Value) (h : gd_H) : go gd_P0 d 74 71 L st h = gs gd_P0 d 74 71 L (i_icge 104 74 L st h) := go_eq gd_P0 d 74 71 L st h
theorem x74_74 (d : Nat) (L st : List Value) (h : gd_H) : go gd_P0 d 74 74 L st h = gs gd_P0 d 74 74 L (i_ald 0 75 L st h) := go_eq gd_P0 d 74 74 L st h
theorem x74_75 (d : Nat) (L st : List Value) (h : gd_H) : go gd_P0 d 74 75 L st h = gs gd_P0 d 74 75 L (i_getR 1 10 78 L st h) := go_eq gd_P0 d 74 75 L st h
theorem x74_78 (d : Nat) (L st : List Value) (h : gd_H) : go gd_P0 d 74 78 L st h = gs gd_P0 d 74 78 L (i_ald 0 79 L st h) := go_eq gd_P0 d 74 78 L st h
theorem x74_79 (d : Nat) (L st : List Value) (h : gd_H) : go gd_P0 d 74 79 L st h = gs gd_P0 d 74 79 L (i_getR 1 8 82 L st h) := go_eq gd_P0 d 74 79 L st h
theorem x74_82 (d : Nat) (L st : List Value) (h : gd_H) : go gd_P0 d 74 82 L st h = gs gd_P0 d 74 82 L (i_ild 4 84 L st h) := go_eq gd_P0 d 74 82 L st h
theorem x74_84 (d : Nat) (L st : List Value) (h : gd_H) : go gd_P0 d 74 84 L st h = gs gd_P0 d 74 84 L (i_aldI 31 85 L st h) := go_eq gd_P0 d 74 84 L st h
theorem x74_85 (d : Nat) (L st : List Value) (h : gd_H) : go gd_P0 d 74 85 L st h = gs gd_P0 d 74 85 L (i_aldI 31 86 L st h) := go_eq gd_P0 d 74 85 L st h
theorem x74_86 (d : Nat) (L st : List Value) (h : gd_H) : go gd_P0 d 74 86 L st h = gs gd_P0 d 74 86 L (i_ald 0 87 L st h) := go_eq gd_P0 d 74 86 L st h
theorem x74_87 (d : Nat) (L st : List Value) (h : gd_H) : go gd_P0 d 74 87 L st h = gs gd_P0 d 74 87 L (i_getR 1 9 90 L st h) := go_eq gd_P0 d 74 87 L st h
theorem x74_90 (d : Nat) (L st : List Value) (h : gd_H) : go gd_P0 d 74 90 L st h = gs gd_P0 d 74 90 L (i_ild 4 92 L st h) := go_eq gd_P0 d 74 90 L st h
theorem x74_92 (d : Nat) (L st : List Value) (h : gd_H) : go gd_P0 d 74 92 L st h = gs gd_P0 d 74 92 L (i_aldI 31 93 L st h) := go_eq gd_P0 d 74 92 L st h
theorem x74_93 (d : Nat) (L st : List Value) (h : gd_H) : go gd_P0 d 74 93 L st h = gs gd_P0 d 74 93 L (i_iceq 98 96 L st h) := go_eq gd_P0 d 74 93 L st h
theorem x74_96 (d : Nat) (L st : List Value) (h : gd_H) : go gd_P0 d 74 96 L st h = gs gd_P0 d 74 96 L (i_psh (.int 0) 97 L st h) := go_eq gd_P0 d 74 96 L st h
theorem x74_97 (d : Nat) (L st : List Value) (h : gd_H) : go gd_P0 d 74 97 L st h = gs gd_P0 d 74 97 L (i_zret L st h) := go_eq gd_P0 d 74 97 L st h
theorem x74_98 (d : Nat) (L st : List Value) (h : gd_H) : go gd_P0 d 74 98 L st h = gs gd_P0 d 74 98 L (i_inc 4 1 101 L st h) := go_eq gd_P0 d 74 98 L st h
theorem x74_101 (d : Nat) (L st : List Value) (h : gd_H) : go gd_P0 d 74 101 L st h = gs gd_P0 d 74 101 L (i_goto 65 L st h) := go_eq gd_P0 d 74 101 L st h
theorem x74_104 (d : Nat) (L st : List Value) (h : gd_H) : go gd_P0 d 74 104 L st h = gs gd_P0 d 74 104 L (i_psh (.int 1) 105 L st h) := go_eq gd_P0 d 74 104 L st h
theorem x74_105 (d : Nat) (L st : List Value) (h : gd_H) : go gd_P0 d 74 105 L st h = gs gd_P0 d 74 105 L (i_zret L st h) := go_eq gd_P0 d 74 105 L st h
theorem s74_0 (d : Nat) (h : gd_H) (v0 : Nat) (v1 : Int32) (v2 : Int32) (v3 : Int32) : go gd_P0 d 74 0 [.ref v0, .int v1, .int v2, .int v3, .null] [] h =
    if gT h v0 = 1 then gc gd_P0 d 74 1 4 [.ref v0, .int v1, .int v2, .int v3, .null] [] (run gd_P0 d 68 [.ref v0] h) else none :=
  (x74_0 ..).trans ((x74_1 ..).trans ((gs_if ..).trans ((ia9 (by simp)).trans (ic9 rfl rfl))))
theorem s74_4 (d : Nat) (h : gd_H) (v0 : Nat) (v1 : Int32) (v2 : Int32) (v3 : Int32) (w4 : Value) (z0 : Nat) : go gd_P0 d 74 4 [.ref v0, .int v1, .int v2, .int v3, w4] [.ref z0] h =
    if gT h v0 = 1 then if gT h (gR h v0 4) = 4 then if gT h (gR h (gR h v0 4) 2) = 31 ∧ ¬ (v1 < 0 ∨ gL h (gR h (gR h v0 4) 2) ≤ Int32.toNatClampNeg v1) then if gT h v0 = 1 then if gT h (gR h v0 4) = 4 then go gd_P0 d 74 26 [.ref v0, .int v1, .int v2, .int v3, .int 1] [] (wI h (up1 (up1 (gI h) (gR h (gR h v0 4) 2) (Int32.toNatClampNeg v1) v2) (gR h v0 4) 13 v3)) else none else none else none else none else none :=
  (x74_4 ..).trans ((x74_5 ..).trans ((x74_6 ..).trans ((gs_if ..).trans (ic9 ((x74_9 ..).trans ((gs_if ..).trans (ic9 ((x74_12 ..).trans ((x74_13 ..).trans ((x74_14 ..).trans ((gs_if ..).trans (ic9 ((x74_15 ..).trans ((x74_16 ..).trans ((gs_if ..).trans (ic9 ((x74_19 ..).trans ((x74_20 ..).trans ((gs_if ..).trans (ic9 ((x74_23 ..).trans ((x74_24 ..))) rfl)))) rfl)))) rfl))))) rfl))) rfl))))
theorem s74_26 (d : Nat) (h : gd_H) (v0 : Nat) (v1 : Int32) (w2 : Value) (w3 : Value) (v4 : Int32) : go gd_P0 d 74 26 [.ref v0, .int v1, w2, w3, .int v4] [] h =
    if 12 < v4 then go gd_P0 d 74 65 [.ref v0, .int v1, .null, .null, .int 0] [] h else if gT h v0 = 1 then if gT h (gR h v0 4) = 4 then gc gd_P0 d 74 37 40 [.ref v0, .int v1, .null, .null, .int v4] [] (run gd_P0 d 152 [.ref (gR h v0 4)] h) else none else none :=
  (x74_26 ..).trans ((x74_28 ..).trans ((x74_30 ..).trans ((gs_if ..).trans (ic9 ((x74_62 ..).trans ((x74_63 ..))) ((x74_33 ..).trans ((x74_34 ..).trans ((gs_if ..).trans (ic9 ((x74_37 ..).trans ((gs_if ..).trans ((ia9 (by simp)).trans (ic9 rfl rfl)))) rfl))))))))
theorem s74_40 (d : Nat) (h : gd_H) (v0 : Nat) (v1 : Int32) (w2 : Value) (w3 : Value) (v4 : Int32) : go gd_P0 d 74 40 [.ref v0, .int v1, w2, w3, .int v4] [] h =
    if gT h v0 = 1 then if gT h v0 = 1 then if gT h (gR h v0 4) = 4 then if gT h (gR h (gR h v0 4) 1) = 31 ∧ ¬ (v1 < 0 ∨ gL h (gR h (gR h v0 4) 1) ≤ Int32.toNatClampNeg v1) then if gT h (gR h v0 10) = 31 ∧ ¬ (v4 < 0 ∨ gL h (gR h v0 10) ≤ Int32.toNatClampNeg v4) then go gd_P0 d 74 26 [.ref v0, .int v1, .null, .null, .int (v4 + 1)] [] (wI h (up1 (gI h) (gR h v0 10) (Int32.toNatClampNeg v4) (gI h (gR h (gR h v0 4) 1) (Int32.toNatClampNeg v1)))) else none else none else none else none else none :=
  (x74_40 ..).trans ((x74_41 ..).trans ((gs_if ..).trans (ic9 ((x74_44 ..).trans ((x74_46 ..).trans ((x74_47 ..).trans ((gs_if ..).trans (ic9 ((x74_50 ..).trans ((gs_if ..).trans (ic9 ((x74_53 ..).trans ((x74_54 ..).trans ((gs_if ..).trans (ic9 ((x74_55 ..).trans ((gs_if ..).trans (ic9 ((x74_56 ..).trans ((x74_59 ..))) rfl))) rfl)))) rfl))) rfl))))) rfl)))
theorem s74_65 (d : Nat) (h : gd_H) (v0 : Nat) (w1 : Value) (w2 : Value) (w3 : Value) (v4 : Int32) : go gd_P0 d 74 65 [.ref v0, w1, w2, w3, .int v4] [] h =
    if gT h v0 = 1 then if (gI h v0 18) ≤ v4 then some (.inl (some (.int 1)), h) else if gT h v0 = 1 then if gT h v0 = 1 then if gT h (gR h v0 8) = 31 ∧ ¬ (v4 < 0 ∨ gL h (gR h v0 8) ≤ Int32.toNatClampNeg v4) then if gT h (gR h v0 10) = 31 ∧ ¬ ((gI h (gR h v0 8) (Int32.toNatClampNeg v4)) < 0 ∨ gL h (gR h v0 10) ≤ Int32.toNatClampNeg (gI h (gR h v0 8) (Int32.toNatClampNeg v4))) then if gT h v0 = 1 then if gT h (gR h v0 9) = 31 ∧ ¬ (v4 < 0 ∨ gL h (gR h v0 9) ≤ Int32.toNatClampNeg v4) then if (gI h (gR h v0 10) (Int32.toNatClampNeg (gI h (gR h v0 8) (Int32.toNatClampNeg v4)))) = (gI h (gR h v0 9) (Int32.toNatClampNeg v4)) then go gd_P0 d 74 65 [.ref v0, .null, .null, .null, .int (v4 + 1)] [] h else some (.inl (some (.int 0)), h) else none else none else none else none else none else none else none :=
  (x74_65 ..).trans ((x74_67 ..).trans ((x74_68 ..).trans ((gs_if ..).trans (ic9 ((x74_71 ..).trans ((gs_if ..).trans (ic9 ((x74_104 ..).trans ((x74_105 ..))) ((x74_74 ..).trans ((x74_75 ..).trans ((gs_if ..).trans (ic9 ((x74_78 ..).trans ((x74_79 ..).trans ((gs_if ..).trans (ic9 ((x74_82 ..).trans ((x74_84 ..).trans ((gs_if ..).trans (ic9 ((x74_85 ..).trans ((gs_if ..).trans (ic9 ((x74_86 ..).trans ((x74_87 ..).trans ((gs_if ..).trans (ic9 ((x74_90 ..).trans ((x74_92 ..).trans ((gs_if ..).trans (ic9 ((x74_93 ..).trans ((gs_if ..).trans (ic9 ((x74_98 ..).trans ((x74_101 ..))) ((x74_96 ..).trans ((x74_97 ..)))))) rfl)))) rfl)))) rfl))) rfl)))) rfl)))) rfl))))))) rfl))))
theorem r74 (d : Nat) (h : gd_H) (v0 : Nat) (v1 : Int32) (v2 : Int32) (v3 : Int32) : run gd_P0 (d + 1) 74 [.ref v0, .int v1, .int v2, .int v3] h = go gd_P0 d 74 0 [.ref v0, .int v1, .int v2, .int v3, .null] [] h := run_succ gd_P0 d 74 [.ref v0, .int v1, .int v2, .int v3] h (Nat.le_of_ble_eq_true rfl)
theorem x75_0 (d : Nat) (L st : List Value) (h : gd_H) : go gd_P0 d 75 0 L st h = gs gd_P0 d 75 0 L (i_ald 0 1 L st h) := go_eq gd_P0 d 75 0 L st h
theorem x75_1 (d : Nat) (L st : List Value) (h : gd_H) : go gd_P0 d 75 1 L st h = gs gd_P0 d 75 1 L (i_ild 1 2 L st h) := go_eq gd_P0 d 75 1 L st h
theorem x75_2 (d : Nat) (L st : List Value) (h : gd_H) : go gd_P0 d 75 2 L st h = gs gd_P0 d 75 2 L (i_cV 64 1 1 5 L st h) := go_eq gd_P0 d 75 2 L st h
theorem x75_5 (d : Nat) (L st : List Value) (h : gd_H) : go gd_P0 d 75 5 L st h = gs gd_P0 d 75 5 L (i_msk [true, true, true, false, false, false, false] (i_ald 0 6) L st h) := go_eq gd_P0 d 75 5 L st h
theorem x75_6 (d : Nat) (L st : List Value) (h : gd_H) : go gd_P0 d 75 6 L st h = gs gd_P0 d 75 6 L (i_ild 2 7 L st h) := go_eq gd_P0 d 75 6 L st h
theorem x75_7 (d : Nat) (L st : List Value) (h : gd_H) : go gd_P0 d 75 7 L st h = gs gd_P0 d 75 7 L (i_psh (.int 0) 8 L st h) := go_eq gd_P0 d 75 7 L st h
theorem x75_8 (d : Nat) (L st : List Value) (h : gd_H) : go gd_P0 d 75 8 L st h = gs gd_P0 d 75 8 L (i_psh (.int 1) 9 L st h) := go_eq gd_P0 d 75 8 L st h
theorem x75_9 (d : Nat) (L st : List Value) (h : gd_H) : go gd_P0 d 75 9 L st h = gs gd_P0 d 75 9 L (i_cV 53 3 1 12 L st h) := go_eq gd_P0 d 75 9 L st h
theorem x75_12 (d : Nat) (L st : List Value) (h : gd_H) : go gd_P0 d 75 12 L st h = gs gd_P0 d 75 12 L (i_msk [true, true, true, false, false, false, false] (i_psh (.int (-1)) 13) L st h) := go_eq gd_P0 d 75 12 L st h
theorem x75_13 (d : Nat) (L st : List Value) (h : gd_H) : go gd_P0 d 75 13 L st h = gs gd_P0 d 75 13 L (i_ist 3 14 L st h) := go_eq gd_P0 d 75 13 L st h
theorem x75_14 (d : Nat) (L st : List Value) (h : gd_H) : go gd_P0 d 75 14 L st h = gs gd_P0 d 75 14 L (i_psh (.int (-1)) 15 L st h) := go_eq gd_P0 d 75 14 L st h
theorem x75_15 (d : Nat) (L st : List Value) (h : gd_H) : go gd_P0 d 75 15 L st h = gs gd_P0 d 75 15 L (i_ist 4 17 L st h) := go_eq gd_P0 d 75 15 L st h
theorem x75_17 (d : Nat) (L st : List Value) (h : gd_H) : go gd_P0 d 75 17 L st h = gs gd_P0 d 75 17 L (i_psh (.int 1) 18 L st h) := go_eq gd_P0 d 75 17 L st h
theorem x75_18 (d : Nat) (L st : List Value) (h : gd_H) : go gd_P0 d 75 18 L st h = gs gd_P0 d 75 18 L (i_ist 5 20 L st h) := go_eq gd_P0 d 75 18 L st h
theorem x75_20 (d : Nat) (L st : List Value) (h : gd_H) : go gd_P0 d 75 20 L st h = gs gd_P0 d 75 20 L (i_msk [true, true, true, true, true, true, false] (i_ild 5 22) L st h) := go_eq gd_P0 d 75 20 L st h
theorem x75_22 (d : Nat) (L st : List Value) (h : gd_H) : go gd_P0 d 75 22 L st h = gs gd_P0 d 75 22 L (i_psh (.int 12) 24 L st h) := go_eq gd_P0 d 75 22 L st h
theorem x75_24 (d : Nat) (L st : List Value) (h : gd_H) : go gd_P0 d 75 24 L st h = gs gd_P0 d 75 24 L (i_icgt 76 27 L st h) := go_eq gd_P0 d 75 24 L st h
theorem x75_27 (d : Nat) (L st : List Value) (h : gd_H) : go gd_P0 d 75 27 L st h = gs gd_P0 d 75 27 L (i_ald 0 28 L st h) := go_eq gd_P0 d 75 27 L st h
theorem x75_28 (d : Nat) (L st : List Value) (h : gd_H) : go gd_P0 d 75 28 L st h = gs gd_P0 d 75 28 L (i_ild 5 30 L st h) := go_eq gd_P0 d 75 28 L st h
theorem x75_30 (d : Nat) (L st : List Value) (h : gd_H) : go gd_P0 d 75 30 L st h = gs gd_P0 d 75 30 L (i_cV 76 1 1 33 L st h) := go_eq gd_P0 d 75 30 L st h
theorem x75_33 (d : Nat) (L st : List Value) (h : gd_H) : go gd_P0 d 75 33 L st h = gs gd_P0 d 75 33 L (i_msk [true, true, true, true, true, true, false] (i_ifeq 39 36) L st h) := go_eq gd_P0 d 75 33 L st h
theorem x75_36 (d : Nat) (L st : List Value) (h : gd_H) : go gd_P0 d 75 36 L st h = gs gd_P0 d 75 36 L (i_goto 70 L st h) := go_eq gd_P0 d 75 36 L st h
theorem x75_39 (d : Nat) (L st : List Value) (h : gd_H) : go gd_P0 d 75 39 L st h = gs gd_P0 d 75 39 L (i_ald 0 40 L st h) := go_eq gd_P0 d 75 39 L st h
theorem x75_40 (d : Nat) (L st : List Value) (h : gd_H) : go gd_P0 d 75 40 L st h = gs gd_P0 d 75 40 L (i_ild 1 41 L st h) := go_eq gd_P0 d 75 40 L st h
theorem x75_41 (d : Nat) (L st : List Value) (h : gd_H) : go gd_P0 d 75 41 L st h = gs gd_P0 d 75 41 L (i_ild 5 43 L st h) := go_eq gd_P0 d 75 41 L st h
theorem x75_43 (d : Nat) (L st : List Value) (h : gd_H) : go gd_P0 d 75 43 L st h = gs gd_P0 d 75 43 L (i_cV 77 2 1 46 L st h) := go_eq gd_P0 d 75 43 L st h
theorem x75_46 (d : Nat) (L st : List Value) (h : gd_H) : go gd_P0 d 75 46 L st h = gs gd_P0 d 75 46 L (i_msk [true, true, true, true, true, true, false] (i_ist 6 48) L st h) := go_eq gd_P0 d 75 46 L st h
theorem x75_48 (d : Nat) (L st : List Value) (h : gd_H) : go gd_P0 d 75 48 L st h = gs gd_P0 d 75 48 L (i_ild 3 49 L st h) := go_eq gd_P0 d 75 48 L st h
theorem x75_49 (d : Nat) (L st : List Value) (h : gd_H) : go gd_P0 d 75 49 L st h = gs gd_P0 d 75 49 L (i_psh (.int (-1)) 50 L st h) := go_eq gd_P0 d 75 49 L st h
theorem x75_50 (d : Nat) (L st : List Value) (h : gd_H) : go gd_P0 d 75 50 L st h = gs gd_P0 d 75 50 L (i_iceq 63 53 L st h) := go_eq gd_P0 d 75 50 L st h
theorem x75_53 (d : Nat) (L st : List Value) (h : gd_H) : go gd_P0 d 75 53 L st h = gs gd_P0 d 75 53 L (i_ild 6 55 L st h) := go_eq gd_P0 d 75 53 L st h
theorem x75_55 (d : Nat) (L st : List Value) (h : gd_H) : go gd_P0 d 75 55 L st h = gs gd_P0 d 75 55 L (i_ild 4 57 L st h) := go_eq gd_P0 d 75 55 L st h
theorem x75_57 (d : Nat) (L st : List Value) (h : gd_H) : go gd_P0 d 75 57 L st h = gs gd_P0 d 75 57 L (i_iclt 63 60 L st h) := go_eq gd_P0 d 75 57 L st h
theorem x75_60 (d : Nat) (L st : List Value) (h : gd_H) : go gd_P0 d 75 60 L st h = gs gd_P0 d 75 60 L (i_goto 70 L st h) := go_eq gd_P0 d 75 60 L st h
theorem x75_63 (d : Nat) (L st : List Value) (h : gd_H) : go gd_P0 d 75 63 L st h = gs gd_P0 d 75 63 L (i_msk [true, true, true, false, false, true, true] (i_ild 5 65) L st h) := go_eq gd_P0 d 75 63 L st h
theorem x75_65 (d : Nat) (L st : List Value) (h : gd_H) : go gd_P0 d 75 65 L st h = gs gd_P0 d 75 65 L (i_ist 3 66 L st h) := go_eq gd_P0 d 75 65 L st h
theorem x75_66 (d : Nat) (L st : List Value) (h : gd_H) : go gd_P0 d 75 66 L st h = gs gd_P0 d 75 66 L (i_ild 6 68 L st h) := go_eq gd_P0 d 75 66 L st h
theorem x75_68 (d : Nat) (L st : List Value) (h : gd_H) : go gd_P0 d 75 68 L st h = gs gd_P0 d 75 68 L (i_ist 4 70 L st h) := go_eq gd_P0 d 75 68 L st h
theorem x75_70 (d : Nat) (L st : List Value) (h : gd_H) : go gd_P0 d 75 70 L st h = gs gd_P0 d 75 70 L (i_msk [true, true, true, true, true, true, false] (i_inc 5 1 73) L st h) := go_eq gd_P0 d 75 70 L st h
theorem x75_73 (d : Nat) (L st : List Value) (h : gd_H) : go gd_P0 d 75 73 L st h = gs gd_P0 d 75 73 L (i_goto 20 L st h) := go_eq gd_P0 d 75 73 L st h
theorem x75_76 (d : Nat) (L st : List Value) (h : gd_H) : go gd_P0 d 75 76 L st h = gs gd_P0 d 75 76 L (i_ild 2 77 L st h) := go_eq gd_P0 d 75 76 L st h
theorem x75_77 (d : Nat) (L st : List Value) (h : gd_H) : go gd_P0 d 75 77 L st h = gs gd_P0 d 75 77 L (i_ifne 84 80 L st h) := go_eq gd_P0 d 75 77 L st h
theorem x75_80 (d : Nat) (L st : List Value) (h : gd_H) : go gd_P0 d 75 80 L st h = gs gd_P0 d 75 80 L (i_ild 3 81 L st h) := go_eq gd_P0 d 75 80 L st h
theorem x75_81 (d : Nat) (L st : List Value) (h : gd_H) : go gd_P0 d 75 81 L st h = gs gd_P0 d 75 81 L (i_goto 86 L st h) := go_eq gd_P0 d 75 81 L st h
theorem x75_84 (d : Nat) (L st : List Value) (h : gd_H) : go gd_P0 d 75 84 L st h = gs gd_P0 d 75 84 L (i_ild 4 86 L st h) := go_eq gd_P0 d 75 84 L st h
theorem x75_86 (d : Nat) (L st : List Value) (h : gd_H) : go gd_P0 d 75 86 L st h = gs gd_P0 d 75 86 L (i_msk [false, false, false, false, false, false, false] (i_iret) L st h) := go_eq gd_P0 d 75 86 L st h
theorem s75_0 (d : Nat) (h : gd_H) (v0 : Nat) (v1 : Int32) (v2 : Int32) : go gd_P0 d 75 0 [.ref v0, .int v1, .int v2, .null, .null, .null, .null] [] h =
    if gT h v0 = 1 then gc gd_P0 d 75 2 5 [.ref v0, .int v1, .int v2, .null, .null, .null, .null] [] (run gd_P0 d 64 [.ref v0, .int v1] h) else none :=
  (x75_0 ..).trans ((x75_1 ..).trans ((x75_2 ..).trans ((gs_if ..).trans ((ia9 (by simp)).trans (ic9 rfl rfl)))))
theorem s75_5 (d : Nat) (h : gd_H) (v0 : Nat) (v1 : Int32) (v2 : Int32) (w3 : Value) (w4 : Value) (w5 : Value) (w6 : Value) : go gd_P0 d 75 5 [.ref v0, .int v1, .int v2, w3, w4, w5, w6] [] h =
    if gT h v0 = 1 then gc gd_P0 d 75 9 12 [.ref v0, .int v1, .int v2, .null, .null, .null, .null] [] (run gd_P0 d 53 [.ref v0, .int v2, .int 0, .int 1] h) else none :=
  (x75_5 ..).trans ((x75_6 ..).trans ((x75_7 ..).trans ((x75_8 ..).trans ((x75_9 ..).trans ((gs_if ..).trans ((ia9 (by simp)).trans (ic9 rfl rfl)))))))
theorem s75_12 (d : Nat) (h : gd_H) (v0 : Nat) (v1 : Int32) (v2 : Int32) (w3 : Value) (w4 : Value) (w5 : Value) (w6 : Value) : go gd_P0 d 75 12 [.ref v0, .int v1, .int v2, w3, w4, w5, w6] [] h =
    go gd_P0 d 75 20 [.ref v0, .int v1, .int v2, .int (-1), .int (-1), .int 1, .null] [] h :=
  (x75_12 ..).trans ((x75_13 ..).trans ((x75_14 ..).trans ((x75_15 ..).trans ((x75_17 ..).trans ((x75_18 ..))))))
theorem s75_20 (d : Nat) (h : gd_H) (v0 : Nat) (v1 : Int32) (v2 : Int32) (v3 : Int32) (v4 : Int32) (v5 : Int32) (w6 : Value) : go gd_P0 d 75 20 [.ref v0, .int v1, .int v2, .int v3, .int v4, .int v5, w6] [] h =
    if 12 < v5 then if v2 = 0 then go gd_P0 d 75 86 [.ref v0, .int v1, .int v2, .int v3, .int v4, .int v5, .null] [.int v3] h else go gd_P0 d 75 86 [.ref v0, .int v1, .int v2, .int v3, .int v4, .int v5, .null] [.int v4] h else if gT h v0 = 1 then gc gd_P0 d 75 30 33 [.ref v0, .int v1, .int v2, .int v3, .int v4, .int v5, .null] [] (run gd_P0 d 76 [.ref v0, .int v5] h) else none :=
  (x75_20 ..).trans ((x75_22 ..).trans ((x75_24 ..).trans ((gs_if ..).trans (ic9 ((x75_76 ..).trans ((x75_77 ..).trans ((gs_if ..).trans (ic9 ((x75_80 ..).trans ((x75_81 ..))) ((x75_84 ..)))))) ((x75_27 ..).trans ((x75_28 ..).trans ((x75_30 ..).trans ((gs_if ..).trans ((ia9 (by simp)).trans (ic9 rfl rfl))))))))))
theorem s75_33 (d : Nat) (h : gd_H) (v0 : Nat) (v1 : Int32) (v2 : Int32) (v3 : Int32) (v4 : Int32) (v5 : Int32) (w6 : Value) (z0 : Int32) : go gd_P0 d 75 33 [.ref v0, .int v1, .int v2, .int v3, .int v4, .int v5, w6] [.int z0] h =
    if z0 = 0 then if gT h v0 = 1 then gc gd_P0 d 75 43 46 [.ref v0, .int v1, .int v2, .int v3, .int v4, .int v5, .null] [] (run gd_P0 d 77 [.ref v0, .int v1, .int v5] h) else none else go gd_P0 d 75 70 [.ref v0, .int v1, .int v2, .int v3, .int v4, .int v5, .null] [] h :=
  (x75_33 ..).trans ((gs_nif ..).trans (ic9 ((x75_39 ..).trans ((x75_40 ..).trans ((x75_41 ..).trans ((x75_43 ..).trans ((gs_if ..).trans ((ia9 (by simp)).trans (ic9 rfl rfl))))))) ((x75_36 ..))))
theorem s75_46 (d : Nat) (h : gd_H) (v0 : Nat) (v1 : Int32) (v2 : Int32) (v3 : Int32) (v4 : Int32) (v5 : Int32) (w6 : Value) (z0 : Int32) : go gd_P0 d 75 46 [.ref v0, .int v1, .int v2, .int v3, .int v4, .int v5, w6] [.int z0] h =
    if v3 = (-1) then go gd_P0 d 75 63 [.ref v0, .int v1, .int v2, .int v3, .int v4, .int v5, .int z0] [] h else if z0 < v4 then go gd_P0 d 75 63 [.ref v0, .int v1, .int v2, .int v3, .int v4, .int v5, .int z0] [] h else go gd_P0 d 75 70 [.ref v0, .int v1, .int v2, .int v3, .int v4, .int v5, .int z0] [] h :=
  (x75_46 ..).trans ((x75_48 ..).trans ((x75_49 ..).trans ((x75_50 ..).trans ((gs_if ..).trans (ic9 (rfl) ((x75_53 ..).trans ((x75_55 ..).trans ((x75_57 ..).trans ((gs_if ..).trans (ic9 (rfl) ((x75_60 ..))))))))))))
theorem s75_63 (d : Nat) (h : gd_H) (v0 : Nat) (v1 : Int32) (v2 : Int32) (w3 : Value) (w4 : Value) (v5 : Int32) (v6 : Int32) : go gd_P0 d 75 63 [.ref v0, .int v1, .int v2, w3, w4, .int v5, .int v6] [] h =
    go gd_P0 d 75 70 [.ref v0, .int v1, .int v2, .int v5, .int v6, .int v5, .int v6] [] h :=
  (x75_63 ..).trans ((x75_65 ..).trans ((x75_66 ..).trans ((x75_68 ..))))
theorem s75_70 (d : Nat) (h : gd_H) (v0 : Nat) (v1 : Int32) (v2 : Int32) (v3 : Int32) (v4 : Int32) (v5 : Int32) (w6 : Value) : go gd_P0 d 75 70 [.ref v0, .int v1, .int v2, .int v3, .int v4, .int v5, w6] [] h =
    go gd_P0 d 75 20 [.ref v0, .int v1, .int v2, .int v3, .int v4, .int (v5 + 1), .null] [] h :=
  (x75_70 ..).trans ((x75_73 ..))
theorem s75_86 (d : Nat) (h : gd_H) (w0 : Value) (w1 : Value) (w2 : Value) (w3 : Value) (w4 : Value) (w5 : Value) (w6 : Value) (z0 : Int32) : go gd_P0 d 75 86 [w0, w1, w2, w3, w4, w5, w6] [.int z0] h =
    some (.inl (some (.int z0)), h) :=
  (x75_86 ..)
theorem r75 (d : Nat) (h : gd_H) (v0 : Nat) (v1 : Int32) (v2 : Int32) : run gd_P0 (d + 1) 75 [.ref v0, .int v1, .int v2] h = go gd_P0 d 75 0 [.ref v0, .int v1, .int v2, .null, .null, .null, .null] [] h := run_succ gd_P0 d 75 [.ref v0, .int v1, .int v2] h (Nat.le_of_ble_eq_true rfl)
theorem x76_0 (d : Nat) (L st : List Value) (h : gd_H) : go gd_P0 d 76 0 L st h = gs gd_P0 d 76 0 L (i_psh (.int 0) 1 L st h) := go_eq gd_P0 d 76 0 L st h
theorem x76_1 (d : Nat) (L st : List Value) (h : gd_H) : go gd_P0 d 76 1 L st h = gs gd_P0 d 76 1 L (i_ist 2 2 L st h) := go_eq gd_P0 d 76 1 L st h
theorem x76_2 (d : Nat) (L st : List Value) (h : gd_H) : go gd_P0 d 76 2 L st h = gs gd_P0 d 76 2 L (i_msk [true, true, true] (i_ild 2 3) L st h) := go_eq gd_P0 d 76 2 L st h
theorem x76_3 (d : Nat) (L st : List Value) (h : gd_H) : go gd_P0 d 76 3 L st h = gs gd_P0 d 76 3 L (i_ald 0 4 L st h) := go_eq gd_P0 d 76 3 L st h
theorem x76_4 (d : Nat) (L st : List Value) (h : gd_H) : go gd_P0 d 76 4 L st h = gs gd_P0 d 76 4 L (i_getI 1 18 7 L st h) := go_eq gd_P0 d 76 4 L st h
theorem x76_7 (d : Nat) (L st : List Value) (h : gd_H) : go gd_P0 d 76 7 L st h = gs gd_P0 d 76 7 L (i_icge 28 10 L st h) := go_eq gd_P0 d 76 7 L st h
theorem x76_10 (d : Nat) (L st : List Value) (h : gd_H) : go gd_P0 d 76 10 L st h = gs gd_P0 d 76 10 L (i_ald 0 11 L st h) := go_eq gd_P0 d 76 10 L st h
theorem x76_11 (d : Nat) (L st : List Value) (h : gd_H) : go gd_P0 d 76 11 L st h = gs gd_P0 d 76 11 L (i_getR 1 8 14 L st h) := go_eq gd_P0 d 76 11 L st h
theorem x76_14 (d : Nat) (L st : List Value) (h : gd_H) : go gd_P0 d 76 14 L st h = gs gd_P0 d 76 14 L (i_ild 2 15 L st h) := go_eq gd_P0 d 76 14 L st h
theorem x76_15 (d : Nat) (L st : List Value) (h : gd_H) : go gd_P0 d 76 15 L st h = gs gd_P0 d 76 15 L (i_aldI 31 16 L st h) := go_eq gd_P0 d 76 15 L st h
theorem x76_16 (d : Nat) (L st : List Value) (h : gd_H) : go gd_P0 d 76 16 L st h = gs gd_P0 d 76 16 L (i_ild 1 17 L st h) := go_eq gd_P0 d 76 16 L st h
theorem x76_17 (d : Nat) (L st : List Value) (h : gd_H) : go gd_P0 d 76 17 L st h = gs gd_P0 d 76 17 L (i_icne 22 20 L st h) := go_eq gd_P0 d 76 17 L st h
theorem x76_20 (d : Nat) (L st : List Value) (h : gd_H) : go gd_P0 d 76 20 L st h = gs gd_P0 d 76 20 L (i_psh (.int 1) 21 L st h) := go_eq gd_P0 d 76 20 L st h
theorem x76_21 (d : Nat) (L st : List Value) (h : gd_H) : go gd_P0 d 76 21 L st h = gs gd_P0 d 76 21 L (i_zret L st h) := go_eq gd_P0 d 76 21 L st h
theorem x76_22 (d : Nat) (L st : List Value) (h : gd_H) : go gd_P0 d 76 22 L st h = gs gd_P0 d 76 22 L (i_inc 2 1 25 L st h) := go_eq gd_P0 d 76 22 L st h
theorem x76_25 (d : Nat) (L st : List Value) (h : gd_H) : go gd_P0 d 76 25 L st h = gs gd_P0 d 76 25 L (i_goto 2 L st h) := go_eq gd_P0 d 76 25 L st h
theorem x76_28 (d : Nat) (L st : List Value) (h : gd_H) : go gd_P0 d 76 28 L st h = gs gd_P0 d 76 28 L (i_psh (.int 0) 29 L st h) := go_eq gd_P0 d 76 28 L st h
theorem x76_29 (d : Nat) (L st : List Value) (h : gd_H) : go gd_P0 d 76 29 L st h = gs gd_P0 d 76 29 L (i_zret L st h) := go_eq gd_P0 d 76 29 L st h
theorem s76_0 (d : Nat) (h : gd_H) (v0 : Nat) (v1 : Int32) : go gd_P0 d 76 0 [.ref v0, .int v1, .null] [] h =
    go gd_P0 d 76 2 [.ref v0, .int v1, .int 0] [] h :=
  (x76_0 ..).trans ((x76_1 ..))
theorem s76_2 (d : Nat) (h : gd_H) (v0 : Nat) (v1 : Int32) (v2 : Int32) : go gd_P0 d 76 2 [.ref v0, .int v1, .int v2] [] h =
    if gT h v0 = 1 then if (gI h v0 18) ≤ v2 then some (.inl (some (.int 0)), h) else if gT h v0 = 1 then if gT h (gR h v0 8) = 31 ∧ ¬ (v2 < 0 ∨ gL h (gR h v0 8) ≤ Int32.toNatClampNeg v2) then if (gI h (gR h v0 8) (Int32.toNatClampNeg v2)) = v1 then some (.inl (some (.int 1)), h) else go gd_P0 d 76 2 [.ref v0, .int v1, .int (v2 + 1)] [] h else none else none else none :=
  (x76_2 ..).trans ((x76_3 ..).trans ((x76_4 ..).trans ((gs_if ..).trans (ic9 ((x76_7 ..).trans ((gs_if ..).trans (ic9 ((x76_28 ..).trans ((x76_29 ..))) ((x76_10 ..).trans ((x76_11 ..).trans ((gs_if ..).trans (ic9 ((x76_14 ..).trans ((x76_15 ..).trans ((gs_if ..).trans (ic9 ((x76_16 ..).trans ((x76_17 ..).trans ((gs_if ..).trans (ic9 ((x76_20 ..).trans ((x76_21 ..))) ((x76_22 ..).trans ((x76_25 ..))))))) rfl)))) rfl))))))) rfl))))
theorem r76 (d : Nat) (h : gd_H) (v0 : Nat) (v1 : Int32) : run gd_P0 (d + 1) 76 [.ref v0, .int v1] h = go gd_P0 d 76 0 [.ref v0, .int v1, .null] [] h := run_succ gd_P0 d 76 [.ref v0, .int v1] h (Nat.le_of_ble_eq_true rfl)
theorem x77_0 (d : Nat) (L st : List Value) (h : gd_H) : go gd_P0 d 77 0 L st h = gs gd_P0 d 77 0 L (i_psh (.int 0) 1 L st h) := go_eq gd_P0 d 77 0 L st h
theorem x77_1 (d : Nat) (L st : List Value) (h : gd_H) : go gd_P0 d 77 1 L st h = gs gd_P0 d 77 1 L (i_ist 3 2 L st h) := go_eq gd_P0 d 77 1 L st h
theorem x77_2 (d : Nat) (L st : List Value) (h : gd_H) : go gd_P0 d 77 2 L st h = gs gd_P0 d 77 2 L (i_psh (.int 0) 3 L st h) := go_eq gd_P0 d 77 2 L st h
theorem x77_3 (d : Nat) (L st : List Value) (h : gd_H) : go gd_P0 d 77 3 L st h = gs gd_P0 d 77 3 L (i_ist 4 5 L st h) := go_eq gd_P0 d 77 3 L st h
theorem x77_5 (d : Nat) (L st : List Value) (h : gd_H) : go gd_P0 d 77 5 L st h = gs gd_P0 d 77 5 L (i_msk [true, true, true, true, true] (i_ild 4 7) L st h) := go_eq gd_P0 d 77 5 L st h
theorem x77_7 (d : Nat) (L st : List Value) (h : gd_H) : go gd_P0 d 77 7 L st h = gs gd_P0 d 77 7 L (i_psh (.int 999) 10 L st h) := go_eq gd_P0 d 77 7 L st h
theorem x77_10 (d : Nat) (L st : List Value) (h : gd_H) : go gd_P0 d 77 10 L st h = gs gd_P0 d 77 10 L (i_icgt 27 13 L st h) := go_eq gd_P0 d 77 10 L st h
theorem x77_13 (d : Nat) (L st : List Value) (h : gd_H) : go gd_P0 d 77 13 L st h = gs gd_P0 d 77 13 L (i_ald 0 14 L st h) := go_eq gd_P0 d 77 13 L st h
theorem x77_14 (d : Nat) (L st : List Value) (h : gd_H) : go gd_P0 d 77 14 L st h = gs gd_P0 d 77 14 L (i_getR 1 11 17 L st h) := go_eq gd_P0 d 77 14 L st h
theorem x77_17 (d : Nat) (L st : List Value) (h : gd_H) : go gd_P0 d 77 17 L st h = gs gd_P0 d 77 17 L (i_ild 4 19 L st h) := go_eq gd_P0 d 77 17 L st h
theorem x77_19 (d : Nat) (L st : List Value) (h : gd_H) : go gd_P0 d 77 19 L st h = gs gd_P0 d 77 19 L (i_psh (.int 0) 20 L st h) := go_eq gd_P0 d 77 19 L st h
theorem x77_20 (d : Nat) (L st : List Value) (h : gd_H) : go gd_P0 d 77 20 L st h = gs gd_P0 d 77 20 L (i_astI 21 L st h) := go_eq gd_P0 d 77 20 L st h
theorem x77_21 (d : Nat) (L st : List Value) (h : gd_H) : go gd_P0 d 77 21 L st h = gs gd_P0 d 77 21 L (i_inc 4 1 24 L st h) := go_eq gd_P0 d 77 21 L st h
theorem x77_24 (d : Nat) (L st : List Value) (h : gd_H) : go gd_P0 d 77 24 L st h = gs gd_P0 d 77 24 L (i_goto 5 L st h) := go_eq gd_P0 d 77 24 L st h
theorem x77_27 (d : Nat) (L st : List Value) (h : gd_H) : go gd_P0 d 77 27 L st h = gs gd_P0 d 77 27 L (i_psh (.int 0) 28 L st h) := go_eq gd_P0 d 77 27 L st h
theorem x77_28 (d : Nat) (L st : List Value) (h : gd_H) : go gd_P0 d 77 28 L st h = gs gd_P0 d 77 28 L (i_ist 4 30 L st h) := go_eq gd_P0 d 77 28 L st h
theorem x77_30 (d : Nat) (L st : List Value) (h : gd_H) : go gd_P0 d 77 30 L st h = gs gd_P0 d 77 30 L (i_msk [true, true, true, true, true] (i_ild 4 32) L st h) := go_eq gd_P0 d 77 30 L st h
theorem x77_32 (d : Nat) (L st : List Value) (h : gd_H) : go gd_P0 d 77 32 L st h = gs gd_P0 d 77 32 L (i_psh (.int 100) 34 L st h) := go_eq gd_P0 d 77 32 L st h
theorem x77_34 (d : Nat) (L st : List Value) (h : gd_H) : go gd_P0 d 77 34 L st h = gs gd_P0 d 77 34 L (i_icge 82 37 L st h) := go_eq gd_P0 d 77 34 L st h
theorem x77_37 (d : Nat) (L st : List Value) (h : gd_H) : go gd_P0 d 77 37 L st h = gs gd_P0 d 77 37 L (i_ald 0 38 L st h) := go_eq gd_P0 d 77 37 L st h
theorem x77_38 (d : Nat) (L st : List Value) (h : gd_H) : go gd_P0 d 77 38 L st h = gs gd_P0 d 77 38 L (i_ild 1 39 L st h) := go_eq gd_P0 d 77 38 L st h
theorem x77_39 (d : Nat) (L st : List Value) (h : gd_H) : go gd_P0 d 77 39 L st h = gs gd_P0 d 77 39 L (i_ild 4 41 L st h) := go_eq gd_P0 d 77 39 L st h
theorem x77_41 (d : Nat) (L st : List Value) (h : gd_H) : go gd_P0 d 77 41 L st h = gs gd_P0 d 77 41 L (i_psh (.int 10) 43 L st h) := go_eq gd_P0 d 77 41 L st h
theorem x77_43 (d : Nat) (L st : List Value) (h : gd_H) : go gd_P0 d 77 43 L st h = gs gd_P0 d 77 43 L (i_idiv 44 L st h) := go_eq gd_P0 d 77 43 L st h
theorem x77_44 (d : Nat) (L st : List Value) (h : gd_H) : go gd_P0 d 77 44 L st h = gs gd_P0 d 77 44 L (i_ild 4 46 L st h) := go_eq gd_P0 d 77 44 L st h
theorem x77_46 (d : Nat) (L st : List Value) (h : gd_H) : go gd_P0 d 77 46 L st h = gs gd_P0 d 77 46 L (i_psh (.int 10) 48 L st h) := go_eq gd_P0 d 77 46 L st h
theorem x77_48 (d : Nat) (L st : List Value) (h : gd_H) : go gd_P0 d 77 48 L st h = gs gd_P0 d 77 48 L (i_irem 49 L st h) := go_eq gd_P0 d 77 48 L st h
theorem x77_49 (d : Nat) (L st : List Value) (h : gd_H) : go gd_P0 d 77 49 L st h = gs gd_P0 d 77 49 L (i_cV 74 3 1 52 L st h) := go_eq gd_P0 d 77 49 L st h
theorem x77_52 (d : Nat) (L st : List Value) (h : gd_H) : go gd_P0 d 77 52 L st h = gs gd_P0 d 77 52 L (i_msk [true, true, true, true, true] (i_ifeq 76 55) L st h) := go_eq gd_P0 d 77 52 L st h
theorem x77_55 (d : Nat) (L st : List Value) (h : gd_H) : go gd_P0 d 77 55 L st h = gs gd_P0 d 77 55 L (i_ild 3 56 L st h) := go_eq gd_P0 d 77 55 L st h
theorem x77_56 (d : Nat) (L st : List Value) (h : gd_H) : go gd_P0 d 77 56 L st h = gs gd_P0 d 77 56 L (i_ald 0 57 L st h) := go_eq gd_P0 d 77 56 L st h
theorem x77_57 (d : Nat) (L st : List Value) (h : gd_H) : go gd_P0 d 77 57 L st h = gs gd_P0 d 77 57 L (i_getR 1 11 60 L st h) := go_eq gd_P0 d 77 57 L st h
theorem x77_60 (d : Nat) (L st : List Value) (h : gd_H) : go gd_P0 d 77 60 L st h = gs gd_P0 d 77 60 L (i_ald 0 61 L st h) := go_eq gd_P0 d 77 60 L st h
theorem x77_61 (d : Nat) (L st : List Value) (h : gd_H) : go gd_P0 d 77 61 L st h = gs gd_P0 d 77 61 L (i_getR 1 10 64 L st h) := go_eq gd_P0 d 77 61 L st h
theorem x77_64 (d : Nat) (L st : List Value) (h : gd_H) : go gd_P0 d 77 64 L st h = gs gd_P0 d 77 64 L (i_ild 2 65 L st h) := go_eq gd_P0 d 77 64 L st h
theorem x77_65 (d : Nat) (L st : List Value) (h : gd_H) : go gd_P0 d 77 65 L st h = gs gd_P0 d 77 65 L (i_aldI 31 66 L st h) := go_eq gd_P0 d 77 65 L st h
theorem x77_66 (d : Nat) (L st : List Value) (h : gd_H) : go gd_P0 d 77 66 L st h = gs gd_P0 d 77 66 L (i_dup2 67 L st h) := go_eq gd_P0 d 77 66 L st h
theorem x77_67 (d : Nat) (L st : List Value) (h : gd_H) : go gd_P0 d 77 67 L st h = gs gd_P0 d 77 67 L (i_aldI 31 68 L st h) := go_eq gd_P0 d 77 67 L st h
theorem x77_68 (d : Nat) (L st : List Value) (h : gd_H) : go gd_P0 d 77 68 L st h = gs gd_P0 d 77 68 L (i_psh (.int 1) 69 L st h) := go_eq gd_P0 d 77 68 L st h
theorem x77_69 (d : Nat) (L st : List Value) (h : gd_H) : go gd_P0 d 77 69 L st h = gs gd_P0 d 77 69 L (i_iadd 70 L st h) := go_eq gd_P0 d 77 69 L st h
theorem x77_70 (d : Nat) (L st : List Value) (h : gd_H) : go gd_P0 d 77 70 L st h = gs gd_P0 d 77 70 L (i_dupx2 71 L st h) := go_eq gd_P0 d 77 70 L st h
theorem x77_71 (d : Nat) (L st : List Value) (h : gd_H) : go gd_P0 d 77 71 L st h = gs gd_P0 d 77 71 L (i_astI 72 L st h) := go_eq gd_P0 d 77 71 L st h
theorem x77_72 (d : Nat) (L st : List Value) (h : gd_H) : go gd_P0 d 77 72 L st h = gs gd_P0 d 77 72 L (i_mmax 75 L st h) := go_eq gd_P0 d 77 72 L st h
theorem x77_75 (d : Nat) (L st : List Value) (h : gd_H) : go gd_P0 d 77 75 L st h = gs gd_P0 d 77 75 L (i_msk [true, true, true, false, true] (i_ist 3 76) L st h) := go_eq gd_P0 d 77 75 L st h
theorem x77_76 (d : Nat) (L st : List Value) (h : gd_H) : go gd_P0 d 77 76 L st h = gs gd_P0 d 77 76 L (i_msk [true, true, true, true, true] (i_inc 4 1 79) L st h) := go_eq gd_P0 d 77 76 L st h
theorem x77_79 (d : Nat) (L st : List Value) (h : gd_H) : go gd_P0 d 77 79 L st h = gs gd_P0 d 77 79 L (i_goto 30 L st h) := go_eq gd_P0 d 77 79 L st h
theorem x77_82 (d : Nat) (L st : List Value) (h : gd_H) : go gd_P0 d 77 82 L st h = gs gd_P0 d 77 82 L (i_ild 3 83 L st h) := go_eq gd_P0 d 77 82 L st h
theorem x77_83 (d : Nat) (L st : List Value) (h : gd_H) : go gd_P0 d 77 83 L st h = gs gd_P0 d 77 83 L (i_iret L st h) := go_eq gd_P0 d 77 83 L st h
theorem s77_0 (d : Nat) (h : gd_H) (v0 : Nat) (v1 : Int32) (v2 : Int32) : go gd_P0 d 77 0 [.ref v0, .int v1, .int v2, .null, .null] [] h =
    go gd_P0 d 77 5 [.ref v0, .int v1, .int v2, .int 0, .int 0] [] h :=
  (x77_0 ..).trans ((x77_1 ..).trans ((x77_2 ..).trans ((x77_3 ..))))
theorem s77_5 (d : Nat) (h : gd_H) (v0 : Nat) (v1 : Int32) (v2 : Int32) (v3 : Int32) (v4 : Int32) : go gd_P0 d 77 5 [.ref v0, .int v1, .int v2, .int v3, .int v4] [] h =
    if 999 < v4 then go gd_P0 d 77 30 [.ref v0, .int v1, .int v2, .int v3, .int 0] [] h else if gT h v0 = 1 then if gT h (gR h v0 11) = 31 ∧ ¬ (v4 < 0 ∨ gL h (gR h v0 11) ≤ Int32.toNatClampNeg v4) then go gd_P0 d 77 5 [.ref v0, .int v1, .int v2, .int v3, .int (v4 + 1)] [] (wI h (up1 (gI h) (gR h v0 11) (Int32.toNatClampNeg v4) 0)) else none else none :=
  (x77_5 ..).trans ((x77_7 ..).trans ((x77_10 ..).trans ((gs_if ..).trans (ic9 ((x77_27 ..).trans ((x77_28 ..))) ((x77_13 ..).trans ((x77_14 ..).trans ((gs_if ..).trans (ic9 ((x77_17 ..).trans ((x77_19 ..).trans ((x77_20 ..).trans ((gs_if ..).trans (ic9 ((x77_21 ..).trans ((x77_24 ..))) rfl))))) rfl))))))))
theorem s77_30 (d : Nat) (h : gd_H) (v0 : Nat) (v1 : Int32) (v2 : Int32) (v3 : Int32) (v4 : Int32) : go gd_P0 d 77 30 [.ref v0, .int v1, .int v2, .int v3, .int v4] [] h =
    if 100 ≤ v4 then some (.inl (some (.int v3)), h) else if gT h v0 = 1 then gc gd_P0 d 77 49 52 [.ref v0, .int v1, .int v2, .int v3, .int v4] [] (run gd_P0 d 74 [.ref v0, .int v1, .int (v4 / 10), .int (v4 - v4 / 10 * 10)] h) else none :=
  (x77_30 ..).trans ((x77_32 ..).trans ((x77_34 ..).trans ((gs_if ..).trans (ic9 ((x77_82 ..).trans ((x77_83 ..))) ((x77_37 ..).trans ((x77_38 ..).trans ((x77_39 ..).trans ((x77_41 ..).trans ((x77_43 ..).trans ((gs_div (y := (10 : Int32)) (by decide)).trans ((x77_44 ..).trans ((x77_46 ..).trans ((x77_48 ..).trans ((gs_rem (y := (10 : Int32)) (by decide)).trans ((x77_49 ..).trans ((gs_if ..).trans ((ia9 (by simp)).trans (ic9 rfl rfl))))))))))))))))))
theorem s77_52 (d : Nat) (h : gd_H) (v0 : Nat) (v1 : Int32) (v2 : Int32) (v3 : Int32) (v4 : Int32) (z0 : Int32) : go gd_P0 d 77 52 [.ref v0, .int v1, .int v2, .int v3, .int v4] [.int z0] h =
    if z0 = 0 then go gd_P0 d 77 76 [.ref v0, .int v1, .int v2, .int v3, .int v4] [] h else if gT h v0 = 1 then if gT h v0 = 1 then if gT h (gR h v0 10) = 31 ∧ ¬ (v2 < 0 ∨ gL h (gR h v0 10) ≤ Int32.toNatClampNeg v2) then if gT h (gR h v0 11) = 31 ∧ ¬ ((gI h (gR h v0 10) (Int32.toNatClampNeg v2)) < 0 ∨ gL h (gR h v0 11) ≤ Int32.toNatClampNeg (gI h (gR h v0 10) (Int32.toNatClampNeg v2))) then if gT h (gR h v0 11) = 31 ∧ ¬ ((gI h (gR h v0 10) (Int32.toNatClampNeg v2)) < 0 ∨ gL h (gR h v0 11) ≤ Int32.toNatClampNeg (gI h (gR h v0 10) (Int32.toNatClampNeg v2))) then go gd_P0 d 77 75 [.ref v0, .int v1, .int v2, .int v3, .int v4] [.int (if v3 < ((gI h (gR h v0 11) (Int32.toNatClampNeg (gI h (gR h v0 10) (Int32.toNatClampNeg v2)))) + 1) then ((gI h (gR h v0 11) (Int32.toNatClampNeg (gI h (gR h v0 10) (Int32.toNatClampNeg v2)))) + 1) else v3)] (wI h (up1 (gI h) (gR h v0 11) (Int32.toNatClampNeg (gI h (gR h v0 10) (Int32.toNatClampNeg v2))) ((gI h (gR h v0 11) (Int32.toNatClampNeg (gI h (gR h v0 10) (Int32.toNatClampNeg v2)))) + 1))) else none else none else none else none else none :=
  (x77_52 ..).trans ((gs_nif ..).trans (ic9 (rfl) ((x77_55 ..).trans ((x77_56 ..).trans ((x77_57 ..).trans ((gs_if ..).trans (ic9 ((x77_60 ..).trans ((x77_61 ..).trans ((gs_if ..).trans (ic9 ((x77_64 ..).trans ((x77_65 ..).trans ((gs_if ..).trans (ic9 ((x77_66 ..).trans ((x77_67 ..).trans ((gs_if ..).trans (ic9 ((x77_68 ..).trans ((x77_69 ..).trans ((x77_70 ..).trans ((x77_71 ..).trans ((gs_if ..).trans (ic9 ((x77_72 ..)) rfl)))))) rfl)))) rfl)))) rfl)))) rfl)))))))
theorem s77_75 (d : Nat) (h : gd_H) (v0 : Nat) (v1 : Int32) (v2 : Int32) (w3 : Value) (v4 : Int32) (z0 : Int32) : go gd_P0 d 77 75 [.ref v0, .int v1, .int v2, w3, .int v4] [.int z0] h =
    go gd_P0 d 77 76 [.ref v0, .int v1, .int v2, .int z0, .int v4] [] h :=
  (x77_75 ..)
theorem s77_76 (d : Nat) (h : gd_H) (v0 : Nat) (v1 : Int32) (v2 : Int32) (v3 : Int32) (v4 : Int32) : go gd_P0 d 77 76 [.ref v0, .int v1, .int v2, .int v3, .int v4] [] h =
    go gd_P0 d 77 30 [.ref v0, .int v1, .int v2, .int v3, .int (v4 + 1)] [] h :=
  (x77_76 ..).trans ((x77_79 ..))
theorem r77 (d : Nat) (h : gd_H) (v0 : Nat) (v1 : Int32) (v2 : Int32) : run gd_P0 (d + 1) 77 [.ref v0, .int v1, .int v2] h = go gd_P0 d 77 0 [.ref v0, .int v1, .int v2, .null, .null] [] h := run_succ gd_P0 d 77 [.ref v0, .int v1, .int v2] h (Nat.le_of_ble_eq_true rfl)
theorem x78_0 (d : Nat) (L st : List Value) (h : gd_H) : go gd_P0 d 78 0 L st h = gs gd_P0 d 78 0 L (i_ald 0 1 L st h) := go_eq gd_P0 d 78 0 L st h
theorem x78_1 (d : Nat) (L st : List Value) (h : gd_H) : go gd_P0 d 78 1 L st h = gs gd_P0 d 78 1 L (i_ild 1 2 L st h) := go_eq gd_P0 d 78 1 L st h
theorem x78_2 (d : Nat) (L st : List Value) (h : gd_H) : go gd_P0 d 78 2 L st h = gs gd_P0 d 78 2 L (i_psh (.int 0) 3 L st h) := go_eq gd_P0 d 78 2 L st h
theorem x78_3 (d : Nat) (L st : List Value) (h : gd_H) : go gd_P0 d 78 3 L st h = gs gd_P0 d 78 3 L (i_psh (.int 12) 5 L st h) := go_eq gd_P0 d 78 3 L st h
theorem x78_5 (d : Nat) (L st : List Value) (h : gd_H) : go gd_P0 d 78 5 L st h = gs gd_P0 d 78 5 L (i_cV 53 3 1 8 L st h) := go_eq gd_P0 d 78 5 L st h
theorem x78_8 (d : Nat) (L st : List Value) (h : gd_H) : go gd_P0 d 78 8 L st h = gs gd_P0 d 78 8 L (i_msk [true, true, true, true, true, false, false, false, false, false] (i_ald 0 9) L st h) := go_eq gd_P0 d 78 8 L st h
theorem x78_9 (d : Nat) (L st : List Value) (h : gd_H) : go gd_P0 d 78 9 L st h = gs gd_P0 d 78 9 L (i_ild 2 10 L st h) := go_eq gd_P0 d 78 9 L st h
theorem x78_10 (d : Nat) (L st : List Value) (h : gd_H) : go gd_P0 d 78 10 L st h = gs gd_P0 d 78 10 L (i_psh (.int 0) 11 L st h) := go_eq gd_P0 d 78 10 L st h
theorem x78_11 (d : Nat) (L st : List Value) (h : gd_H) : go gd_P0 d 78 11 L st h = gs gd_P0 d 78 11 L (i_psh (.int 12) 13 L st h) := go_eq gd_P0 d 78 11 L st h
theorem x78_13 (d : Nat) (L st : List Value) (h : gd_H) : go gd_P0 d 78 13 L st h = gs gd_P0 d 78 13 L (i_cV 53 3 1 16 L st h) := go_eq gd_P0 d 78 13 L st h
theorem x78_16 (d : Nat) (L st : List Value) (h : gd_H) : go gd_P0 d 78 16 L st h = gs gd_P0 d 78 16 L (i_msk [true, true, true, true, true, false, false, false, false, false] (i_ald 0 17) L st h) := go_eq gd_P0 d 78 16 L st h
theorem x78_17 (d : Nat) (L st : List Value) (h : gd_H) : go gd_P0 d 78 17 L st h = gs gd_P0 d 78 17 L (i_ild 3 18 L st h) := go_eq gd_P0 d 78 17 L st h
theorem x78_18 (d : Nat) (L st : List Value) (h : gd_H) : go gd_P0 d 78 18 L st h = gs gd_P0 d 78 18 L (i_psh (.int 0) 19 L st h) := go_eq gd_P0 d 78 18 L st h
theorem x78_19 (d : Nat) (L st : List Value) (h : gd_H) : go gd_P0 d 78 19 L st h = gs gd_P0 d 78 19 L (i_psh (.int 16) 21 L st h) := go_eq gd_P0 d 78 19 L st h
theorem x78_21 (d : Nat) (L st : List Value) (h : gd_H) : go gd_P0 d 78 21 L st h = gs gd_P0 d 78 21 L (i_cV 53 3 1 24 L st h) := go_eq gd_P0 d 78 21 L st h
theorem x78_24 (d : Nat) (L st : List Value) (h : gd_H) : go gd_P0 d 78 24 L st h = gs gd_P0 d 78 24 L (i_msk [true, true, true, true, true, false, false, false, false, false] (i_ald 0 25) L st h) := go_eq gd_P0 d 78 24 L st h
theorem x78_25 (d : Nat) (L st : List Value) (h : gd_H) : go gd_P0 d 78 25 L st h = gs gd_P0 d 78 25 L (i_ild 4 27 L st h) := go_eq gd_P0 d 78 25 L st h
theorem x78_27 (d : Nat) (L st : List Value) (h : gd_H) : go gd_P0 d 78 27 L st h = gs gd_P0 d 78 27 L (i_psh (.int 0) 28 L st h) := go_eq gd_P0 d 78 27 L st h
theorem x78_28 (d : Nat) (L st : List Value) (h : gd_H) : go gd_P0 d 78 28 L st h = gs gd_P0 d 78 28 L (i_psh (.int 1) 29 L st h) := go_eq gd_P0 d 78 28 L st h
theorem x78_29 (d : Nat) (L st : List Value) (h : gd_H) : go gd_P0 d 78 29 L st h = gs gd_P0 d 78 29 L (i_cV 53 3 1 32 L st h) := go_eq gd_P0 d 78 29 L st h
theorem x78_32 (d : Nat) (L st : List Value) (h : gd_H) : go gd_P0 d 78 32 L st h = gs gd_P0 d 78 32 L (i_msk [true, true, true, true, true, false, false, false, false, false] (i_psh (.int 0) 33) L st h) := go_eq gd_P0 d 78 32 L st h
theorem x78_33 (d : Nat) (L st : List Value) (h : gd_H) : go gd_P0 d 78 33 L st h = gs gd_P0 d 78 33 L (i_ist 5 35 L st h) := go_eq gd_P0 d 78 33 L st h
theorem x78_35 (d : Nat) (L st : List Value) (h : gd_H) : go gd_P0 d 78 35 L st h = gs gd_P0 d 78 35 L (i_msk [true, true, true, true, true, true, false, false, false, false] (i_ild 5 37) L st h) := go_eq gd_P0 d 78 35 L st h
theorem x78_37 (d : Nat) (L st : List Value) (h : gd_H) : go gd_P0 d 78 37 L st h = gs gd_P0 d 78 37 L (i_psh (.int 12) 39 L st h) := go_eq gd_P0 d 78 37 L st h
theorem x78_39 (d : Nat) (L st : List Value) (h : gd_H) : go gd_P0 d 78 39 L st h = gs gd_P0 d 78 39 L (i_icgt 65 42 L st h) := go_eq gd_P0 d 78 39 L st h
theorem x78_42 (d : Nat) (L st : List Value) (h : gd_H) : go gd_P0 d 78 42 L st h = gs gd_P0 d 78 42 L (i_ald 0 43 L st h) := go_eq gd_P0 d 78 42 L st h
theorem x78_43 (d : Nat) (L st : List Value) (h : gd_H) : go gd_P0 d 78 43 L st h = gs gd_P0 d 78 43 L (i_getR 1 14 46 L st h) := go_eq gd_P0 d 78 43 L st h
theorem x78_46 (d : Nat) (L st : List Value) (h : gd_H) : go gd_P0 d 78 46 L st h = gs gd_P0 d 78 46 L (i_ild 5 48 L st h) := go_eq gd_P0 d 78 46 L st h
theorem x78_48 (d : Nat) (L st : List Value) (h : gd_H) : go gd_P0 d 78 48 L st h = gs gd_P0 d 78 48 L (i_ild 5 50 L st h) := go_eq gd_P0 d 78 48 L st h
theorem x78_50 (d : Nat) (L st : List Value) (h : gd_H) : go gd_P0 d 78 50 L st h = gs gd_P0 d 78 50 L (i_ifne 57 53 L st h) := go_eq gd_P0 d 78 50 L st h
theorem x78_53 (d : Nat) (L st : List Value) (h : gd_H) : go gd_P0 d 78 53 L st h = gs gd_P0 d 78 53 L (i_psh (.long 1) 54 L st h) := go_eq gd_P0 d 78 53 L st h
theorem x78_54 (d : Nat) (L st : List Value) (h : gd_H) : go gd_P0 d 78 54 L st h = gs gd_P0 d 78 54 L (i_goto 58 L st h) := go_eq gd_P0 d 78 54 L st h
theorem x78_57 (d : Nat) (L st : List Value) (h : gd_H) : go gd_P0 d 78 57 L st h = gs gd_P0 d 78 57 L (i_psh (.long 0) 58 L st h) := go_eq gd_P0 d 78 57 L st h
theorem x78_58 (d : Nat) (L st : List Value) (h : gd_H) : go gd_P0 d 78 58 L st h = gs gd_P0 d 78 58 L (i_msk [true, true, true, true, true, true, false, false, false, false] (i_astJ 59) L st h) := go_eq gd_P0 d 78 58 L st h
theorem x78_59 (d : Nat) (L st : List Value) (h : gd_H) : go gd_P0 d 78 59 L st h = gs gd_P0 d 78 59 L (i_inc 5 1 62 L st h) := go_eq gd_P0 d 78 59 L st h
theorem x78_62 (d : Nat) (L st : List Value) (h : gd_H) : go gd_P0 d 78 62 L st h = gs gd_P0 d 78 62 L (i_goto 35 L st h) := go_eq gd_P0 d 78 62 L st h
theorem x78_65 (d : Nat) (L st : List Value) (h : gd_H) : go gd_P0 d 78 65 L st h = gs gd_P0 d 78 65 L (i_psh (.int 0) 66 L st h) := go_eq gd_P0 d 78 65 L st h
theorem x78_66 (d : Nat) (L st : List Value) (h : gd_H) : go gd_P0 d 78 66 L st h = gs gd_P0 d 78 66 L (i_ist 5 68 L st h) := go_eq gd_P0 d 78 66 L st h
theorem x78_68 (d : Nat) (L st : List Value) (h : gd_H) : go gd_P0 d 78 68 L st h = gs gd_P0 d 78 68 L (i_msk [true, true, true, true, true, true, false, false, false, false] (i_ild 5 70) L st h) := go_eq gd_P0 d 78 68 L st h
theorem x78_70 (d : Nat) (L st : List Value) (h : gd_H) : go gd_P0 d 78 70 L st h = gs gd_P0 d 78 70 L (i_ild 1 71 L st h) := go_eq gd_P0 d 78 70 L st h
theorem x78_71 (d : Nat) (L st : List Value) (h : gd_H) : go gd_P0 d 78 71 L st h = gs gd_P0 d 78 71 L (i_icge 159 74 L st h) := go_eq gd_P0 d 78 71 L st h
theorem x78_74 (d : Nat) (L st : List Value) (h : gd_H) : go gd_P0 d 78 74 L st h = gs gd_P0 d 78 74 L (i_psh (.long 0) 75 L st h) := go_eq gd_P0 d 78 74 L st h
theorem x78_75 (d : Nat) (L st : List Value) (h : gd_H) : go gd_P0 d 78 75 L st h = gs gd_P0 d 78 75 L (i_lst 6 77 L st h) := go_eq gd_P0 d 78 75 L st h
theorem x78_77 (d : Nat) (L st : List Value) (h : gd_H) : go gd_P0 d 78 77 L st h = gs gd_P0 d 78 77 L (i_psh (.int 0) 78 L st h) := go_eq gd_P0 d 78 77 L st h
theorem x78_78 (d : Nat) (L st : List Value) (h : gd_H) : go gd_P0 d 78 78 L st h = gs gd_P0 d 78 78 L (i_ist 8 80 L st h) := go_eq gd_P0 d 78 78 L st h
theorem x78_80 (d : Nat) (L st : List Value) (h : gd_H) : go gd_P0 d 78 80 L st h = gs gd_P0 d 78 80 L (i_msk [true, true, true, true, true, true, true, false, true, false] (i_ild 8 82) L st h) := go_eq gd_P0 d 78 80 L st h
theorem x78_82 (d : Nat) (L st : List Value) (h : gd_H) : go gd_P0 d 78 82 L st h = gs gd_P0 d 78 82 L (i_ild 2 83 L st h) := go_eq gd_P0 d 78 82 L st h
theorem x78_83 (d : Nat) (L st : List Value) (h : gd_H) : go gd_P0 d 78 83 L st h = gs gd_P0 d 78 83 L (i_icge 110 86 L st h) := go_eq gd_P0 d 78 83 L st h
theorem x78_86 (d : Nat) (L st : List Value) (h : gd_H) : go gd_P0 d 78 86 L st h = gs gd_P0 d 78 86 L (i_lld 6 88 L st h) := go_eq gd_P0 d 78 86 L st h
theorem x78_88 (d : Nat) (L st : List Value) (h : gd_H) : go gd_P0 d 78 88 L st h = gs gd_P0 d 78 88 L (i_ald 0 89 L st h) := go_eq gd_P0 d 78 88 L st h
theorem x78_89 (d : Nat) (L st : List Value) (h : gd_H) : go gd_P0 d 78 89 L st h = gs gd_P0 d 78 89 L (i_getR 1 14 92 L st h) := go_eq gd_P0 d 78 89 L st h
theorem x78_92 (d : Nat) (L st : List Value) (h : gd_H) : go gd_P0 d 78 92 L st h = gs gd_P0 d 78 92 L (i_ild 8 94 L st h) := go_eq gd_P0 d 78 92 L st h
theorem x78_94 (d : Nat) (L st : List Value) (h : gd_H) : go gd_P0 d 78 94 L st h = gs gd_P0 d 78 94 L (i_aldJ 95 L st h) := go_eq gd_P0 d 78 94 L st h
theorem x78_95 (d : Nat) (L st : List Value) (h : gd_H) : go gd_P0 d 78 95 L st h = gs gd_P0 d 78 95 L (i_psh (.int 16) 97 L st h) := go_eq gd_P0 d 78 95 L st h
theorem x78_97 (d : Nat) (L st : List Value) (h : gd_H) : go gd_P0 d 78 97 L st h = gs gd_P0 d 78 97 L (i_ild 3 98 L st h) := go_eq gd_P0 d 78 97 L st h
theorem x78_98 (d : Nat) (L st : List Value) (h : gd_H) : go gd_P0 d 78 98 L st h = gs gd_P0 d 78 98 L (i_isub 99 L st h) := go_eq gd_P0 d 78 98 L st h
theorem x78_99 (d : Nat) (L st : List Value) (h : gd_H) : go gd_P0 d 78 99 L st h = gs gd_P0 d 78 99 L (i_i2l 100 L st h) := go_eq gd_P0 d 78 99 L st h
theorem x78_100 (d : Nat) (L st : List Value) (h : gd_H) : go gd_P0 d 78 100 L st h = gs gd_P0 d 78 100 L (i_lmul 101 L st h) := go_eq gd_P0 d 78 100 L st h
theorem x78_101 (d : Nat) (L st : List Value) (h : gd_H) : go gd_P0 d 78 101 L st h = gs gd_P0 d 78 101 L (i_ladd 102 L st h) := go_eq gd_P0 d 78 101 L st h
theorem x78_102 (d : Nat) (L st : List Value) (h : gd_H) : go gd_P0 d 78 102 L st h = gs gd_P0 d 78 102 L (i_lst 6 104 L st h) := go_eq gd_P0 d 78 102 L st h
theorem x78_104 (d : Nat) (L st : List Value) (h : gd_H) : go gd_P0 d 78 104 L st h = gs gd_P0 d 78 104 L (i_inc 8 1 107 L st h) := go_eq gd_P0 d 78 104 L st h
theorem x78_107 (d : Nat) (L st : List Value) (h : gd_H) : go gd_P0 d 78 107 L st h = gs gd_P0 d 78 107 L (i_goto 80 L st h) := go_eq gd_P0 d 78 107 L st h
theorem x78_110 (d : Nat) (L st : List Value) (h : gd_H) : go gd_P0 d 78 110 L st h = gs gd_P0 d 78 110 L (i_ild 2 111 L st h) := go_eq gd_P0 d 78 110 L st h
theorem x78_111 (d : Nat) (L st : List Value) (h : gd_H) : go gd_P0 d 78 111 L st h = gs gd_P0 d 78 111 L (i_psh (.int 1) 112 L st h) := go_eq gd_P0 d 78 111 L st h
theorem x78_112 (d : Nat) (L st : List Value) (h : gd_H) : go gd_P0 d 78 112 L st h = gs gd_P0 d 78 112 L (i_isub 113 L st h) := go_eq gd_P0 d 78 112 L st h
theorem x78_113 (d : Nat) (L st : List Value) (h : gd_H) : go gd_P0 d 78 113 L st h = gs gd_P0 d 78 113 L (i_ist 8 115 L st h) := go_eq gd_P0 d 78 113 L st h
theorem x78_115 (d : Nat) (L st : List Value) (h : gd_H) : go gd_P0 d 78 115 L st h = gs gd_P0 d 78 115 L (i_msk [true, true, true, true, true, true, true, false, true, false] (i_ild 8 117) L st h) := go_eq gd_P0 d 78 115 L st h
theorem x78_117 (d : Nat) (L st : List Value) (h : gd_H) : go gd_P0 d 78 117 L st h = gs gd_P0 d 78 117 L (i_ifle 145 120 L st h) := go_eq gd_P0 d 78 117 L st h
theorem x78_120 (d : Nat) (L st : List Value) (h : gd_H) : go gd_P0 d 78 120 L st h = gs gd_P0 d 78 120 L (i_ald 0 121 L st h) := go_eq gd_P0 d 78 120 L st h
theorem x78_121 (d : Nat) (L st : List Value) (h : gd_H) : go gd_P0 d 78 121 L st h = gs gd_P0 d 78 121 L (i_getR 1 14 124 L st h) := go_eq gd_P0 d 78 121 L st h
theorem x78_124 (d : Nat) (L st : List Value) (h : gd_H) : go gd_P0 d 78 124 L st h = gs gd_P0 d 78 124 L (i_ild 8 126 L st h) := go_eq gd_P0 d 78 124 L st h
theorem x78_126 (d : Nat) (L st : List Value) (h : gd_H) : go gd_P0 d 78 126 L st h = gs gd_P0 d 78 126 L (i_ald 0 127 L st h) := go_eq gd_P0 d 78 126 L st h
theorem x78_127 (d : Nat) (L st : List Value) (h : gd_H) : go gd_P0 d 78 127 L st h = gs gd_P0 d 78 127 L (i_getR 1 14 130 L st h) := go_eq gd_P0 d 78 127 L st h
theorem x78_130 (d : Nat) (L st : List Value) (h : gd_H) : go gd_P0 d 78 130 L st h = gs gd_P0 d 78 130 L (i_ild 8 132 L st h) := go_eq gd_P0 d 78 130 L st h
theorem x78_132 (d : Nat) (L st : List Value) (h : gd_H) : go gd_P0 d 78 132 L st h = gs gd_P0 d 78 132 L (i_psh (.int 1) 133 L st h) := go_eq gd_P0 d 78 132 L st h
theorem x78_133 (d : Nat) (L st : List Value) (h : gd_H) : go gd_P0 d 78 133 L st h = gs gd_P0 d 78 133 L (i_isub 134 L st h) := go_eq gd_P0 d 78 133 L st h
theorem x78_134 (d : Nat) (L st : List Value) (h : gd_H) : go gd_P0 d 78 134 L st h = gs gd_P0 d 78 134 L (i_aldJ 135 L st h) := go_eq gd_P0 d 78 134 L st h
theorem x78_135 (d : Nat) (L st : List Value) (h : gd_H) : go gd_P0 d 78 135 L st h = gs gd_P0 d 78 135 L (i_ild 3 136 L st h) := go_eq gd_P0 d 78 135 L st h
theorem x78_136 (d : Nat) (L st : List Value) (h : gd_H) : go gd_P0 d 78 136 L st h = gs gd_P0 d 78 136 L (i_i2l 137 L st h) := go_eq gd_P0 d 78 136 L st h
theorem x78_137 (d : Nat) (L st : List Value) (h : gd_H) : go gd_P0 d 78 137 L st h = gs gd_P0 d 78 137 L (i_lmul 138 L st h) := go_eq gd_P0 d 78 137 L st h
theorem x78_138 (d : Nat) (L st : List Value) (h : gd_H) : go gd_P0 d 78 138 L st h = gs gd_P0 d 78 138 L (i_astJ 139 L st h) := go_eq gd_P0 d 78 138 L st h
theorem x78_139 (d : Nat) (L st : List Value) (h : gd_H) : go gd_P0 d 78 139 L st h = gs gd_P0 d 78 139 L (i_inc 8 (-1) 142 L st h) := go_eq gd_P0 d 78 139 L st h
theorem x78_142 (d : Nat) (L st : List Value) (h : gd_H) : go gd_P0 d 78 142 L st h = gs gd_P0 d 78 142 L (i_goto 115 L st h) := go_eq gd_P0 d 78 142 L st h
theorem x78_145 (d : Nat) (L st : List Value) (h : gd_H) : go gd_P0 d 78 145 L st h = gs gd_P0 d 78 145 L (i_ald 0 146 L st h) := go_eq gd_P0 d 78 145 L st h
theorem x78_146 (d : Nat) (L st : List Value) (h : gd_H) : go gd_P0 d 78 146 L st h = gs gd_P0 d 78 146 L (i_getR 1 14 149 L st h) := go_eq gd_P0 d 78 146 L st h
theorem x78_149 (d : Nat) (L st : List Value) (h : gd_H) : go gd_P0 d 78 149 L st h = gs gd_P0 d 78 149 L (i_psh (.int 0) 150 L st h) := go_eq gd_P0 d 78 149 L st h
theorem x78_150 (d : Nat) (L st : List Value) (h : gd_H) : go gd_P0 d 78 150 L st h = gs gd_P0 d 78 150 L (i_lld 6 152 L st h) := go_eq gd_P0 d 78 150 L st h
theorem x78_152 (d : Nat) (L st : List Value) (h : gd_H) : go gd_P0 d 78 152 L st h = gs gd_P0 d 78 152 L (i_astJ 153 L st h) := go_eq gd_P0 d 78 152 L st h
theorem x78_153 (d : Nat) (L st : List Value) (h : gd_H) : go gd_P0 d 78 153 L st h = gs gd_P0 d 78 153 L (i_inc 5 1 156 L st h) := go_eq gd_P0 d 78 153 L st h
theorem x78_156 (d : Nat) (L st : List Value) (h : gd_H) : go gd_P0 d 78 156 L st h = gs gd_P0 d 78 156 L (i_goto 68 L st h) := go_eq gd_P0 d 78 156 L st h
theorem x78_159 (d : Nat) (L st : List Value) (h : gd_H) : go gd_P0 d 78 159 L st h = gs gd_P0 d 78 159 L (i_psh (.long 0) 160 L st h) := go_eq gd_P0 d 78 159 L st h
theorem x78_160 (d : Nat) (L st : List Value) (h : gd_H) : go gd_P0 d 78 160 L st h = gs gd_P0 d 78 160 L (i_lst 5 162 L st h) := go_eq gd_P0 d 78 160 L st h
theorem x78_162 (d : Nat) (L st : List Value) (h : gd_H) : go gd_P0 d 78 162 L st h = gs gd_P0 d 78 162 L (i_psh (.long 1) 163 L st h) := go_eq gd_P0 d 78 162 L st h
theorem x78_163 (d : Nat) (L st : List Value) (h : gd_H) : go gd_P0 d 78 163 L st h = gs gd_P0 d 78 163 L (i_psh (.int 4) 164 L st h) := go_eq gd_P0 d 78 163 L st h
theorem x78_164 (d : Nat) (L st : List Value) (h : gd_H) : go gd_P0 d 78 164 L st h = gs gd_P0 d 78 164 L (i_ild 1 165 L st h) := go_eq gd_P0 d 78 164 L st h
theorem x78_165 (d : Nat) (L st : List Value) (h : gd_H) : go gd_P0 d 78 165 L st h = gs gd_P0 d 78 165 L (i_imul 166 L st h) := go_eq gd_P0 d 78 165 L st h
theorem x78_166 (d : Nat) (L st : List Value) (h : gd_H) : go gd_P0 d 78 166 L st h = gs gd_P0 d 78 166 L (i_lshl 167 L st h) := go_eq gd_P0 d 78 166 L st h
theorem x78_167 (d : Nat) (L st : List Value) (h : gd_H) : go gd_P0 d 78 167 L st h = gs gd_P0 d 78 167 L (i_lst 7 169 L st h) := go_eq gd_P0 d 78 167 L st h
theorem x78_169 (d : Nat) (L st : List Value) (h : gd_H) : go gd_P0 d 78 169 L st h = gs gd_P0 d 78 169 L (i_psh (.int 0) 170 L st h) := go_eq gd_P0 d 78 169 L st h
theorem x78_170 (d : Nat) (L st : List Value) (h : gd_H) : go gd_P0 d 78 170 L st h = gs gd_P0 d 78 170 L (i_ist 9 172 L st h) := go_eq gd_P0 d 78 170 L st h
theorem x78_172 (d : Nat) (L st : List Value) (h : gd_H) : go gd_P0 d 78 172 L st h = gs gd_P0 d 78 172 L (i_msk [true, false, true, false, true, true, false, true, false, true] (i_ild 9 174) L st h) := go_eq gd_P0 d 78 172 L st h
theorem x78_174 (d : Nat) (L st : List Value) (h : gd_H) : go gd_P0 d 78 174 L st h = gs gd_P0 d 78 174 L (i_ild 2 175 L st h) := go_eq gd_P0 d 78 174 L st h
theorem x78_175 (d : Nat) (L st : List Value) (h : gd_H) : go gd_P0 d 78 175 L st h = gs gd_P0 d 78 175 L (i_icge 196 178 L st h) := go_eq gd_P0 d 78 175 L st h
theorem x78_178 (d : Nat) (L st : List Value) (h : gd_H) : go gd_P0 d 78 178 L st h = gs gd_P0 d 78 178 L (i_lld 5 180 L st h) := go_eq gd_P0 d 78 178 L st h
theorem x78_180 (d : Nat) (L st : List Value) (h : gd_H) : go gd_P0 d 78 180 L st h = gs gd_P0 d 78 180 L (i_ald 0 181 L st h) := go_eq gd_P0 d 78 180 L st h
theorem x78_181 (d : Nat) (L st : List Value) (h : gd_H) : go gd_P0 d 78 181 L st h = gs gd_P0 d 78 181 L (i_getR 1 14 184 L st h) := go_eq gd_P0 d 78 181 L st h
theorem x78_184 (d : Nat) (L st : List Value) (h : gd_H) : go gd_P0 d 78 184 L st h = gs gd_P0 d 78 184 L (i_ild 9 186 L st h) := go_eq gd_P0 d 78 184 L st h
theorem x78_186 (d : Nat) (L st : List Value) (h : gd_H) : go gd_P0 d 78 186 L st h = gs gd_P0 d 78 186 L (i_aldJ 187 L st h) := go_eq gd_P0 d 78 186 L st h
theorem x78_187 (d : Nat) (L st : List Value) (h : gd_H) : go gd_P0 d 78 187 L st h = gs gd_P0 d 78 187 L (i_ladd 188 L st h) := go_eq gd_P0 d 78 187 L st h
theorem x78_188 (d : Nat) (L st : List Value) (h : gd_H) : go gd_P0 d 78 188 L st h = gs gd_P0 d 78 188 L (i_lst 5 190 L st h) := go_eq gd_P0 d 78 188 L st h
theorem x78_190 (d : Nat) (L st : List Value) (h : gd_H) : go gd_P0 d 78 190 L st h = gs gd_P0 d 78 190 L (i_inc 9 1 193 L st h) := go_eq gd_P0 d 78 190 L st h
theorem x78_193 (d : Nat) (L st : List Value) (h : gd_H) : go gd_P0 d 78 193 L st h = gs gd_P0 d 78 193 L (i_goto 172 L st h) := go_eq gd_P0 d 78 193 L st h
theorem x78_196 (d : Nat) (L st : List Value) (h : gd_H) : go gd_P0 d 78 196 L st h = gs gd_P0 d 78 196 L (i_lld 7 198 L st h) := go_eq gd_P0 d 78 196 L st h
theorem x78_198 (d : Nat) (L st : List Value) (h : gd_H) : go gd_P0 d 78 198 L st h = gs gd_P0 d 78 198 L (i_lld 5 200 L st h) := go_eq gd_P0 d 78 198 L st h
theorem x78_200 (d : Nat) (L st : List Value) (h : gd_H) : go gd_P0 d 78 200 L st h = gs gd_P0 d 78 200 L (i_lsub 201 L st h) := go_eq gd_P0 d 78 200 L st h
theorem x78_201 (d : Nat) (L st : List Value) (h : gd_H) : go gd_P0 d 78 201 L st h = gs gd_P0 d 78 201 L (i_lld 7 203 L st h) := go_eq gd_P0 d 78 201 L st h
theorem x78_203 (d : Nat) (L st : List Value) (h : gd_H) : go gd_P0 d 78 203 L st h = gs gd_P0 d 78 203 L (i_ild 4 205 L st h) := go_eq gd_P0 d 78 203 L st h
theorem x78_205 (d : Nat) (L st : List Value) (h : gd_H) : go gd_P0 d 78 205 L st h = gs gd_P0 d 78 205 L (i_cS 79 3 208 L st h) := go_eq gd_P0 d 78 205 L st h
theorem x78_208 (d : Nat) (L st : List Value) (h : gd_H) : go gd_P0 d 78 208 L st h = gs gd_P0 d 78 208 L (i_msk [false, false, false, false, false, false, false, false, false, false] (i_lret) L st h) := go_eq gd_P0 d 78 208 L st h
theorem s78_0 (d : Nat) (h : gd_H) (v0 : Nat) (v1 : Int32) (v2 : Int32) (v3 : Int32) (v4 : Int32) : go gd_P0 d 78 0 [.ref v0, .int v1, .int v2, .int v3, .int v4, .null, .null, .null, .null, .null] [] h =
    if gT h v0 = 1 then gc gd_P0 d 78 5 8 [.ref v0, .int v1, .int v2, .int v3, .int v4, .null, .null, .null, .null, .null] [] (run gd_P0 d 53 [.ref v0, .int v1, .int 0, .int 12] h) else none :=
  (x78_0 ..).trans ((x78_1 ..).trans ((x78_2 ..).trans ((x78_3 ..).trans ((x78_5 ..).trans ((gs_if ..).trans ((ia9 (by simp)).trans (ic9 rfl rfl)))))))
theorem s78_8 (d : Nat) (h : gd_H) (v0 : Nat) (v1 : Int32) (v2 : Int32) (v3 : Int32) (v4 : Int32) (w5 : Value) (w6 : Value) (w7 : Value) (w8 : Value) (w9 : Value) : go gd_P0 d 78 8 [.ref v0, .int v1, .int v2, .int v3, .int v4, w5, w6, w7, w8, w9] [] h =
    if gT h v0 = 1 then gc gd_P0 d 78 13 16 [.ref v0, .int v1, .int v2, .int v3, .int v4, .null, .null, .null, .null, .null] [] (run gd_P0 d 53 [.ref v0, .int v2, .int 0, .int 12] h) else none :=
  (x78_8 ..).trans ((x78_9 ..).trans ((x78_10 ..).trans ((x78_11 ..).trans ((x78_13 ..).trans ((gs_if ..).trans ((ia9 (by simp)).trans (ic9 rfl rfl)))))))
theorem s78_16 (d : Nat) (h : gd_H) (v0 : Nat) (v1 : Int32) (v2 : Int32) (v3 : Int32) (v4 : Int32) (w5 : Value) (w6 : Value) (w7 : Value) (w8 : Value) (w9 : Value) : go gd_P0 d 78 16 [.ref v0, .int v1, .int v2, .int v3, .int v4, w5, w6, w7, w8, w9] [] h =
    if gT h v0 = 1 then gc gd_P0 d 78 21 24 [.ref v0, .int v1, .int v2, .int v3, .int v4, .null, .null, .null, .null, .null] [] (run gd_P0 d 53 [.ref v0, .int v3, .int 0, .int 16] h) else none :=
  (x78_16 ..).trans ((x78_17 ..).trans ((x78_18 ..).trans ((x78_19 ..).trans ((x78_21 ..).trans ((gs_if ..).trans ((ia9 (by simp)).trans (ic9 rfl rfl)))))))
theorem s78_24 (d : Nat) (h : gd_H) (v0 : Nat) (v1 : Int32) (v2 : Int32) (v3 : Int32) (v4 : Int32) (w5 : Value) (w6 : Value) (w7 : Value) (w8 : Value) (w9 : Value) : go gd_P0 d 78 24 [.ref v0, .int v1, .int v2, .int v3, .int v4, w5, w6, w7, w8, w9] [] h =
    if gT h v0 = 1 then gc gd_P0 d 78 29 32 [.ref v0, .int v1, .int v2, .int v3, .int v4, .null, .null, .null, .null, .null] [] (run gd_P0 d 53 [.ref v0, .int v4, .int 0, .int 1] h) else none :=
  (x78_24 ..).trans ((x78_25 ..).trans ((x78_27 ..).trans ((x78_28 ..).trans ((x78_29 ..).trans ((gs_if ..).trans ((ia9 (by simp)).trans (ic9 rfl rfl)))))))
theorem s78_32 (d : Nat) (h : gd_H) (v0 : Nat) (v1 : Int32) (v2 : Int32) (v3 : Int32) (v4 : Int32) (w5 : Value) (w6 : Value) (w7 : Value) (w8 : Value) (w9 : Value) : go gd_P0 d 78 32 [.ref v0, .int v1, .int v2, .int v3, .int v4, w5, w6, w7, w8, w9] [] h =
    go gd_P0 d 78 35 [.ref v0, .int v1, .int v2, .int v3, .int v4, .int 0, .null, .null, .null, .null] [] h :=
  (x78_32 ..).trans ((x78_33 ..))
theorem s78_35 (d : Nat) (h : gd_H) (v0 : Nat) (v1 : Int32) (v2 : Int32) (v3 : Int32) (v4 : Int32) (v5 : Int32) (w6 : Value) (w7 : Value) (w8 : Value) (w9 : Value) : go gd_P0 d 78 35 [.ref v0, .int v1, .int v2, .int v3, .int v4, .int v5, w6, w7, w8, w9] [] h =
    if 12 < v5 then go gd_P0 d 78 68 [.ref v0, .int v1, .int v2, .int v3, .int v4, .int 0, .null, .null, .null, .null] [] h else if gT h v0 = 1 then if v5 = 0 then go gd_P0 d 78 58 [.ref v0, .int v1, .int v2, .int v3, .int v4, .int v5, .null, .null, .null, .null] [.long 1, .int v5, .ref (gR h v0 14)] h else go gd_P0 d 78 58 [.ref v0, .int v1, .int v2, .int v3, .int v4, .int v5, .null, .null, .null, .null] [.long 0, .int v5, .ref (gR h v0 14)] h else none :=
  (x78_35 ..).trans ((x78_37 ..).trans ((x78_39 ..).trans ((gs_if ..).trans (ic9 ((x78_65 ..).trans ((x78_66 ..))) ((x78_42 ..).trans ((x78_43 ..).trans ((gs_if ..).trans (ic9 ((x78_46 ..).trans ((x78_48 ..).trans ((x78_50 ..).trans ((gs_if ..).trans (ic9 ((x78_53 ..).trans ((x78_54 ..))) ((x78_57 ..))))))) rfl))))))))
theorem s78_58 (d : Nat) (h : gd_H) (v0 : Nat) (v1 : Int32) (v2 : Int32) (v3 : Int32) (v4 : Int32) (v5 : Int32) (w6 : Value) (w7 : Value) (w8 : Value) (w9 : Value) (z0 : Int64) (z1 : Int32) (z2 : Nat) : go gd_P0 d 78 58 [.ref v0, .int v1, .int v2, .int v3, .int v4, .int v5, w6, w7, w8, w9] [.long z0, .int z1, .ref z2] h =
    if gT h z2 = 34 ∧ ¬ (z1 < 0 ∨ gL h z2 ≤ Int32.toNatClampNeg z1) then go gd_P0 d 78 35 [.ref v0, .int v1, .int v2, .int v3, .int v4, .int (v5 + 1), .null, .null, .null, .null] [] (wJ h (up1 (gJ h) z2 (Int32.toNatClampNeg z1) z0)) else none :=
  (x78_58 ..).trans ((gs_nif ..).trans (ic9 ((x78_59 ..).trans ((x78_62 ..))) rfl))
theorem s78_68 (d : Nat) (h : gd_H) (v0 : Nat) (v1 : Int32) (v2 : Int32) (v3 : Int32) (v4 : Int32) (v5 : Int32) (w6 : Value) (w7 : Value) (w8 : Value) (w9 : Value) : go gd_P0 d 78 68 [.ref v0, .int v1, .int v2, .int v3, .int v4, .int v5, w6, w7, w8, w9] [] h =
    if v1 ≤ v5 then go gd_P0 d 78 172 [.ref v0, .int v1, .int v2, .int v3, .int v4, .long 0, .null, .long (1 <<< (Int32.toInt64 (4 * v1) &&& 63)), .null, .int 0] [] h else go gd_P0 d 78 80 [.ref v0, .int v1, .int v2, .int v3, .int v4, .int v5, .long 0, .null, .int 0, .null] [] h :=
  (x78_68 ..).trans ((x78_70 ..).trans ((x78_71 ..).trans ((gs_if ..).trans (ic9 ((x78_159 ..).trans ((x78_160 ..).trans ((x78_162 ..).trans ((x78_163 ..).trans ((x78_164 ..).trans ((x78_165 ..).trans ((x78_166 ..).trans ((x78_167 ..).trans ((x78_169 ..).trans ((x78_170 ..))))))))))) ((x78_74 ..).trans ((x78_75 ..).trans ((x78_77 ..).trans ((x78_78 ..)))))))))
theorem s78_80 (d : Nat) (h : gd_H) (v0 : Nat) (v1 : Int32) (v2 : Int32) (v3 : Int32) (v4 : Int32) (v5 : Int32) (v6 : Int64) (w7 : Value) (v8 : Int32) (w9 : Value) : go gd_P0 d 78 80 [.ref v0, .int v1, .int v2, .int v3, .int v4, .int v5, .long v6, w7, .int v8, w9] [] h =
    if v2 ≤ v8 then go gd_P0 d 78 115 [.ref v0, .int v1, .int v2, .int v3, .int v4, .int v5, .long v6, .null, .int (v2 - 1), .null] [] h else if gT h v0 = 1 then if gT h (gR h v0 14) = 34 ∧ ¬ (v8 < 0 ∨ gL h (gR h v0 14) ≤ Int32.toNatClampNeg v8) then go gd_P0 d 78 80 [.ref v0, .int v1, .int v2, .int v3, .int v4, .int v5, .long (v6 + ((gJ h (gR h v0 14) (Int32.toNatClampNeg v8)) * (Int32.toInt64 (16 - v3)))), .null, .int (v8 + 1), .null] [] h else none else none :=
  (x78_80 ..).trans ((x78_82 ..).trans ((x78_83 ..).trans ((gs_if ..).trans (ic9 ((x78_110 ..).trans ((x78_111 ..).trans ((x78_112 ..).trans ((x78_113 ..))))) ((x78_86 ..).trans ((x78_88 ..).trans ((x78_89 ..).trans ((gs_if ..).trans (ic9 ((x78_92 ..).trans ((x78_94 ..).trans ((gs_if ..).trans (ic9 ((x78_95 ..).trans ((x78_97 ..).trans ((x78_98 ..).trans ((x78_99 ..).trans ((x78_100 ..).trans ((x78_101 ..).trans ((x78_102 ..).trans ((x78_104 ..).trans ((x78_107 ..)))))))))) rfl)))) rfl)))))))))
theorem s78_115 (d : Nat) (h : gd_H) (v0 : Nat) (v1 : Int32) (v2 : Int32) (v3 : Int32) (v4 : Int32) (v5 : Int32) (v6 : Int64) (w7 : Value) (v8 : Int32) (w9 : Value) : go gd_P0 d 78 115 [.ref v0, .int v1, .int v2, .int v3, .int v4, .int v5, .long v6, w7, .int v8, w9] [] h =
    if v8 ≤ 0 then if gT h v0 = 1 then if gT h (gR h v0 14) = 34 ∧ ¬ ((0 : Int32) < 0 ∨ gL h (gR h v0 14) ≤ Int32.toNatClampNeg (0 : Int32)) then go gd_P0 d 78 68 [.ref v0, .int v1, .int v2, .int v3, .int v4, .int (v5 + 1), .long v6, .null, .int v8, .null] [] (wJ h (up1 (gJ h) (gR h v0 14) (Int32.toNatClampNeg (0 : Int32)) v6)) else none else none else if gT h v0 = 1 then if gT h v0 = 1 then if gT h (gR h v0 14) = 34 ∧ ¬ ((v8 - 1) < 0 ∨ gL h (gR h v0 14) ≤ Int32.toNatClampNeg (v8 - 1)) then if gT h (gR h v0 14) = 34 ∧ ¬ (v8 < 0 ∨ gL h (gR h v0 14) ≤ Int32.toNatClampNeg v8) then go gd_P0 d 78 115 [.ref v0, .int v1, .int v2, .int v3, .int v4, .int v5, .long v6, .null, .int (v8 + (-1)), .null] [] (wJ h (up1 (gJ h) (gR h v0 14) (Int32.toNatClampNeg v8) ((gJ h (gR h v0 14) (Int32.toNatClampNeg (v8 - 1))) * (Int32.toInt64 v3)))) else none else none else none else none :=
  (x78_115 ..).trans ((x78_117 ..).trans ((gs_if ..).trans (ic9 ((x78_145 ..).trans ((x78_146 ..).trans ((gs_if ..).trans (ic9 ((x78_149 ..).trans ((x78_150 ..).trans ((x78_152 ..).trans ((gs_if ..).trans (ic9 ((x78_153 ..).trans ((x78_156 ..))) rfl))))) rfl)))) ((x78_120 ..).trans ((x78_121 ..).trans ((gs_if ..).trans (ic9 ((x78_124 ..).trans ((x78_126 ..).trans ((x78_127 ..).trans ((gs_if ..).trans (ic9 ((x78_130 ..).trans ((x78_132 ..).trans ((x78_133 ..).trans ((x78_134 ..).trans ((gs_if ..).trans (ic9 ((x78_135 ..).trans ((x78_136 ..).trans ((x78_137 ..).trans ((x78_138 ..).trans ((gs_if ..).trans (ic9 ((x78_139 ..).trans ((x78_142 ..))) rfl)))))) rfl)))))) rfl))))) rfl)))))))
theorem s78_172 (d : Nat) (h : gd_H) (v0 : Nat) (w1 : Value) (v2 : Int32) (w3 : Value) (v4 : Int32) (v5 : Int64) (w6 : Value) (v7 : Int64) (w8 : Value) (v9 : Int32) : go gd_P0 d 78 172 [.ref v0, w1, .int v2, w3, .int v4, .long v5, w6, .long v7, w8, .int v9] [] h =
    if v2 ≤ v9 then gc gd_P0 d 78 205 208 [.ref v0, .null, .int v2, .null, .int v4, .long v5, .null, .long v7, .null, .int v9] [] (run gd_P0 d 79 [.long (v7 - v5), .long v7, .int v4] h) else if gT h v0 = 1 then if gT h (gR h v0 14) = 34 ∧ ¬ (v9 < 0 ∨ gL h (gR h v0 14) ≤ Int32.toNatClampNeg v9) then go gd_P0 d 78 172 [.ref v0, .null, .int v2, .null, .int v4, .long (v5 + (gJ h (gR h v0 14) (Int32.toNatClampNeg v9))), .null, .long v7, .null, .int (v9 + 1)] [] h else none else none :=
  (x78_172 ..).trans ((x78_174 ..).trans ((x78_175 ..).trans ((gs_if ..).trans (ic9 ((x78_196 ..).trans ((x78_198 ..).trans ((x78_200 ..).trans ((x78_201 ..).trans ((x78_203 ..).trans ((x78_205 ..))))))) ((x78_178 ..).trans ((x78_180 ..).trans ((x78_181 ..).trans ((gs_if ..).trans (ic9 ((x78_184 ..).trans ((x78_186 ..).trans ((gs_if ..).trans (ic9 ((x78_187 ..).trans ((x78_188 ..).trans ((x78_190 ..).trans ((x78_193 ..))))) rfl)))) rfl)))))))))
theorem s78_208 (d : Nat) (h : gd_H) (w0 : Value) (w1 : Value) (w2 : Value) (w3 : Value) (w4 : Value) (w5 : Value) (w6 : Value) (w7 : Value) (w8 : Value) (w9 : Value) (z0 : Int64) : go gd_P0 d 78 208 [w0, w1, w2, w3, w4, w5, w6, w7, w8, w9] [.long z0] h =
    some (.inl (some (.long z0)), h) :=
  (x78_208 ..)
theorem r78 (d : Nat) (h : gd_H) (v0 : Nat) (v1 : Int32) (v2 : Int32) (v3 : Int32) (v4 : Int32) : run gd_P0 (d + 1) 78 [.ref v0, .int v1, .int v2, .int v3, .int v4] h = go gd_P0 d 78 0 [.ref v0, .int v1, .int v2, .int v3, .int v4, .null, .null, .null, .null, .null] [] h := run_succ gd_P0 d 78 [.ref v0, .int v1, .int v2, .int v3, .int v4] h (Nat.le_of_ble_eq_true rfl)
theorem x79_0 (d : Nat) (L st : List Value) (h : gd_H) : go gd_P0 d 79 0 L st h = gs gd_P0 d 79 0 L (i_lld 2 1 L st h) := go_eq gd_P0 d 79 0 L st h
theorem x79_1 (d : Nat) (L st : List Value) (h : gd_H) : go gd_P0 d 79 1 L st h = gs gd_P0 d 79 1 L (i_lst 5 3 L st h) := go_eq gd_P0 d 79 1 L st h
theorem x79_3 (d : Nat) (L st : List Value) (h : gd_H) : go gd_P0 d 79 3 L st h = gs gd_P0 d 79 3 L (i_lld 0 4 L st h) := go_eq gd_P0 d 79 3 L st h
theorem x79_4 (d : Nat) (L st : List Value) (h : gd_H) : go gd_P0 d 79 4 L st h = gs gd_P0 d 79 4 L (i_lst 7 6 L st h) := go_eq gd_P0 d 79 4 L st h
theorem x79_6 (d : Nat) (L st : List Value) (h : gd_H) : go gd_P0 d 79 6 L st h = gs gd_P0 d 79 6 L (i_msk [true, false, true, false, true, true, false, true, false, false, false] (i_lld 7 8) L st h) := go_eq gd_P0 d 79 6 L st h
theorem x79_8 (d : Nat) (L st : List Value) (h : gd_H) : go gd_P0 d 79 8 L st h = gs gd_P0 d 79 8 L (i_psh (.long 0) 9 L st h) := go_eq gd_P0 d 79 8 L st h
theorem x79_9 (d : Nat) (L st : List Value) (h : gd_H) : go gd_P0 d 79 9 L st h = gs gd_P0 d 79 9 L (i_lcmp 10 L st h) := go_eq gd_P0 d 79 9 L st h
theorem x79_10 (d : Nat) (L st : List Value) (h : gd_H) : go gd_P0 d 79 10 L st h = gs gd_P0 d 79 10 L (i_ifeq 31 13 L st h) := go_eq gd_P0 d 79 10 L st h
theorem x79_13 (d : Nat) (L st : List Value) (h : gd_H) : go gd_P0 d 79 13 L st h = gs gd_P0 d 79 13 L (i_lld 5 15 L st h) := go_eq gd_P0 d 79 13 L st h
theorem x79_15 (d : Nat) (L st : List Value) (h : gd_H) : go gd_P0 d 79 15 L st h = gs gd_P0 d 79 15 L (i_lld 7 17 L st h) := go_eq gd_P0 d 79 15 L st h
theorem x79_17 (d : Nat) (L st : List Value) (h : gd_H) : go gd_P0 d 79 17 L st h = gs gd_P0 d 79 17 L (i_lrem 18 L st h) := go_eq gd_P0 d 79 17 L st h
theorem x79_18 (d : Nat) (L st : List Value) (h : gd_H) : go gd_P0 d 79 18 L st h = gs gd_P0 d 79 18 L (i_lst 9 20 L st h) := go_eq gd_P0 d 79 18 L st h
theorem x79_20 (d : Nat) (L st : List Value) (h : gd_H) : go gd_P0 d 79 20 L st h = gs gd_P0 d 79 20 L (i_lld 7 22 L st h) := go_eq gd_P0 d 79 20 L st h
theorem x79_22 (d : Nat) (L st : List Value) (h : gd_H) : go gd_P0 d 79 22 L st h = gs gd_P0 d 79 22 L (i_lst 5 24 L st h) := go_eq gd_P0 d 79 22 L st h
theorem x79_24 (d : Nat) (L st : List Value) (h : gd_H) : go gd_P0 d 79 24 L st h = gs gd_P0 d 79 24 L (i_lld 9 26 L st h) := go_eq gd_P0 d 79 24 L st h
theorem x79_26 (d : Nat) (L st : List Value) (h : gd_H) : go gd_P0 d 79 26 L st h = gs gd_P0 d 79 26 L (i_lst 7 28 L st h) := go_eq gd_P0 d 79 26 L st h
theorem x79_28 (d : Nat) (L st : List Value) (h : gd_H) : go gd_P0 d 79 28 L st h = gs gd_P0 d 79 28 L (i_goto 6 L st h) := go_eq gd_P0 d 79 28 L st h
theorem x79_31 (d : Nat) (L st : List Value) (h : gd_H) : go gd_P0 d 79 31 L st h = gs gd_P0 d 79 31 L (i_ild 4 33 L st h) := go_eq gd_P0 d 79 31 L st h
theorem x79_33 (d : Nat) (L st : List Value) (h : gd_H) : go gd_P0 d 79 33 L st h = gs gd_P0 d 79 33 L (i_ifne 43 36 L st h) := go_eq gd_P0 d 79 33 L st h
theorem x79_36 (d : Nat) (L st : List Value) (h : gd_H) : go gd_P0 d 79 36 L st h = gs gd_P0 d 79 36 L (i_lld 0 37 L st h) := go_eq gd_P0 d 79 36 L st h
theorem x79_37 (d : Nat) (L st : List Value) (h : gd_H) : go gd_P0 d 79 37 L st h = gs gd_P0 d 79 37 L (i_lld 5 39 L st h) := go_eq gd_P0 d 79 37 L st h
theorem x79_39 (d : Nat) (L st : List Value) (h : gd_H) : go gd_P0 d 79 39 L st h = gs gd_P0 d 79 39 L (i_ldiv 40 L st h) := go_eq gd_P0 d 79 39 L st h
theorem x79_40 (d : Nat) (L st : List Value) (h : gd_H) : go gd_P0 d 79 40 L st h = gs gd_P0 d 79 40 L (i_goto 47 L st h) := go_eq gd_P0 d 79 40 L st h
theorem x79_43 (d : Nat) (L st : List Value) (h : gd_H) : go gd_P0 d 79 43 L st h = gs gd_P0 d 79 43 L (i_lld 2 44 L st h) := go_eq gd_P0 d 79 43 L st h
theorem x79_44 (d : Nat) (L st : List Value) (h : gd_H) : go gd_P0 d 79 44 L st h = gs gd_P0 d 79 44 L (i_lld 5 46 L st h) := go_eq gd_P0 d 79 44 L st h
theorem x79_46 (d : Nat) (L st : List Value) (h : gd_H) : go gd_P0 d 79 46 L st h = gs gd_P0 d 79 46 L (i_ldiv 47 L st h) := go_eq gd_P0 d 79 46 L st h
theorem x79_47 (d : Nat) (L st : List Value) (h : gd_H) : go gd_P0 d 79 47 L st h = gs gd_P0 d 79 47 L (i_msk [false, false, false, false, false, false, false, false, false, false, false] (i_lret) L st h) := go_eq gd_P0 d 79 47 L st h
theorem s79_0 (d : Nat) (h : gd_H) (v0 : Int64) (v2 : Int64) (v4 : Int32) : go gd_P0 d 79 0 [.long v0, .null, .long v2, .null, .int v4, .null, .null, .null, .null, .null, .null] [] h =
    go gd_P0 d 79 6 [.long v0, .null, .long v2, .null, .int v4, .long v2, .null, .long v0, .null, .null, .null] [] h :=
  (x79_0 ..).trans ((x79_1 ..).trans ((x79_3 ..).trans ((x79_4 ..))))
theorem s79_6 (d : Nat) (h : gd_H) (v0 : Int64) (w1 : Value) (v2 : Int64) (w3 : Value) (v4 : Int32) (v5 : Int64) (w6 : Value) (v7 : Int64) (w8 : Value) (w9 : Value) (w10 : Value) : go gd_P0 d 79 6 [.long v0, w1, .long v2, w3, .int v4, .long v5, w6, .long v7, w8, w9, w10] [] h =
    if (lg_cmp v7 0) = 0 then if v4 = 0 then if v5 = 0 then none else go gd_P0 d 79 47 [.long v0, .null, .long v2, .null, .int v4, .long v5, .null, .long v7, .null, .null, .null] [.long (v0 / v5)] h else if v5 = 0 then none else go gd_P0 d 79 47 [.long v0, .null, .long v2, .null, .int v4, .long v5, .null, .long v7, .null, .null, .null] [.long (v2 / v5)] h else if v7 = 0 then none else go gd_P0 d 79 6 [.long v0, .null, .long v2, .null, .int v4, .long v7, .null, .long (v5 - v5 / v7 * v7), .null, .long (v5 - v5 / v7 * v7), .null] [] h :=
  (x79_6 ..).trans ((x79_8 ..).trans ((x79_9 ..).trans ((x79_10 ..).trans ((gs_if ..).trans (ic9 ((x79_31 ..).trans ((x79_33 ..).trans ((gs_if ..).trans (ic9 ((x79_36 ..).trans ((x79_37 ..).trans ((x79_39 ..).trans ((gs_if ..).trans (ic9 rfl ((x79_40 ..))))))) ((x79_43 ..).trans ((x79_44 ..).trans ((x79_46 ..).trans ((gs_if ..).trans (ic9 rfl (rfl)))))))))) ((x79_13 ..).trans ((x79_15 ..).trans ((x79_17 ..).trans ((gs_if ..).trans (ic9 rfl ((x79_18 ..).trans ((x79_20 ..).trans ((x79_22 ..).trans ((x79_24 ..).trans ((x79_26 ..).trans ((x79_28 ..)))))))))))))))))
theorem s79_47 (d : Nat) (h : gd_H) (w0 : Value) (w1 : Value) (w2 : Value) (w3 : Value) (w4 : Value) (w5 : Value) (w6 : Value) (w7 : Value) (w8 : Value) (w9 : Value) (w10 : Value) (z0 : Int64) : go gd_P0 d 79 47 [w0, w1, w2, w3, w4, w5, w6, w7, w8, w9, w10] [.long z0] h =
    some (.inl (some (.long z0)), h) :=
  (x79_47 ..)
theorem r79 (d : Nat) (h : gd_H) (v0 : Int64) (v2 : Int64) (v4 : Int32) : run gd_P0 (d + 1) 79 [.long v0, .long v2, .int v4] h = go gd_P0 d 79 0 [.long v0, .null, .long v2, .null, .int v4, .null, .null, .null, .null, .null, .null] [] h := run_succ gd_P0 d 79 [.long v0, .long v2, .int v4] h (Nat.le_of_ble_eq_true rfl)
theorem x80_0 (d : Nat) (L st : List Value) (h : gd_H) : go gd_P0 d 80 0 L st h = gs gd_P0 d 80 0 L (i_ald 0 1 L st h) := go_eq gd_P0 d 80 0 L st h
theorem x80_1 (d : Nat) (L st : List Value) (h : gd_H) : go gd_P0 d 80 1 L st h = gs gd_P0 d 80 1 L (i_ild 1 2 L st h) := go_eq gd_P0 d 80 1 L st h
theorem x80_2 (d : Nat) (L st : List Value) (h : gd_H) : go gd_P0 d 80 2 L st h = gs gd_P0 d 80 2 L (i_psh (.int 0) 3 L st h) := go_eq gd_P0 d 80 2 L st h
theorem x80_3 (d : Nat) (L st : List Value) (h : gd_H) : go gd_P0 d 80 3 L st h = gs gd_P0 d 80 3 L (i_psh (.int 99) 5 L st h) := go_eq gd_P0 d 80 3 L st h
theorem x80_5 (d : Nat) (L st : List Value) (h : gd_H) : go gd_P0 d 80 5 L st h = gs gd_P0 d 80 5 L (i_cV 53 3 1 8 L st h) := go_eq gd_P0 d 80 5 L st h
theorem x80_8 (d : Nat) (L st : List Value) (h : gd_H) : go gd_P0 d 80 8 L st h = gs gd_P0 d 80 8 L (i_msk [true, true, true, true, false, false, false, false, false, false] (i_ald 0 9) L st h) := go_eq gd_P0 d 80 8 L st h
theorem x80_9 (d : Nat) (L st : List Value) (h : gd_H) : go gd_P0 d 80 9 L st h = gs gd_P0 d 80 9 L (i_ild 2 10 L st h) := go_eq gd_P0 d 80 9 L st h
theorem x80_10 (d : Nat) (L st : List Value) (h : gd_H) : go gd_P0 d 80 10 L st h = gs gd_P0 d 80 10 L (i_psh (.int 0) 11 L st h) := go_eq gd_P0 d 80 10 L st h
theorem x80_11 (d : Nat) (L st : List Value) (h : gd_H) : go gd_P0 d 80 11 L st h = gs gd_P0 d 80 11 L (i_psh (.int 99) 13 L st h) := go_eq gd_P0 d 80 11 L st h
theorem x80_13 (d : Nat) (L st : List Value) (h : gd_H) : go gd_P0 d 80 13 L st h = gs gd_P0 d 80 13 L (i_cV 53 3 1 16 L st h) := go_eq gd_P0 d 80 13 L st h
theorem x80_16 (d : Nat) (L st : List Value) (h : gd_H) : go gd_P0 d 80 16 L st h = gs gd_P0 d 80 16 L (i_msk [true, true, true, true, false, false, false, false, false, false] (i_ald 0 17) L st h) := go_eq gd_P0 d 80 16 L st h
theorem x80_17 (d : Nat) (L st : List Value) (h : gd_H) : go gd_P0 d 80 17 L st h = gs gd_P0 d 80 17 L (i_ild 3 18 L st h) := go_eq gd_P0 d 80 17 L st h
theorem x80_18 (d : Nat) (L st : List Value) (h : gd_H) : go gd_P0 d 80 18 L st h = gs gd_P0 d 80 18 L (i_psh (.int 0) 19 L st h) := go_eq gd_P0 d 80 18 L st h
theorem x80_19 (d : Nat) (L st : List Value) (h : gd_H) : go gd_P0 d 80 19 L st h = gs gd_P0 d 80 19 L (i_psh (.int 2) 20 L st h) := go_eq gd_P0 d 80 19 L st h
theorem x80_20 (d : Nat) (L st : List Value) (h : gd_H) : go gd_P0 d 80 20 L st h = gs gd_P0 d 80 20 L (i_cV 53 3 1 23 L st h) := go_eq gd_P0 d 80 20 L st h
theorem x80_23 (d : Nat) (L st : List Value) (h : gd_H) : go gd_P0 d 80 23 L st h = gs gd_P0 d 80 23 L (i_msk [false, true, true, true, false, false, false, false, false, false] (i_psh (.int 0) 24) L st h) := go_eq gd_P0 d 80 23 L st h
theorem x80_24 (d : Nat) (L st : List Value) (h : gd_H) : go gd_P0 d 80 24 L st h = gs gd_P0 d 80 24 L (i_ist 4 26 L st h) := go_eq gd_P0 d 80 24 L st h
theorem x80_26 (d : Nat) (L st : List Value) (h : gd_H) : go gd_P0 d 80 26 L st h = gs gd_P0 d 80 26 L (i_psh (.int (-1)) 27 L st h) := go_eq gd_P0 d 80 26 L st h
theorem x80_27 (d : Nat) (L st : List Value) (h : gd_H) : go gd_P0 d 80 27 L st h = gs gd_P0 d 80 27 L (i_ist 5 29 L st h) := go_eq gd_P0 d 80 27 L st h
theorem x80_29 (d : Nat) (L st : List Value) (h : gd_H) : go gd_P0 d 80 29 L st h = gs gd_P0 d 80 29 L (i_psh (.int 0) 30 L st h) := go_eq gd_P0 d 80 29 L st h
theorem x80_30 (d : Nat) (L st : List Value) (h : gd_H) : go gd_P0 d 80 30 L st h = gs gd_P0 d 80 30 L (i_ist 6 32 L st h) := go_eq gd_P0 d 80 30 L st h
theorem x80_32 (d : Nat) (L st : List Value) (h : gd_H) : go gd_P0 d 80 32 L st h = gs gd_P0 d 80 32 L (i_psh (.int 3) 33 L st h) := go_eq gd_P0 d 80 32 L st h
theorem x80_33 (d : Nat) (L st : List Value) (h : gd_H) : go gd_P0 d 80 33 L st h = gs gd_P0 d 80 33 L (i_ist 7 35 L st h) := go_eq gd_P0 d 80 33 L st h
theorem x80_35 (d : Nat) (L st : List Value) (h : gd_H) : go gd_P0 d 80 35 L st h = gs gd_P0 d 80 35 L (i_msk [false, true, true, true, true, true, true, true, false, false] (i_ild 7 37) L st h) := go_eq gd_P0 d 80 35 L st h
theorem x80_37 (d : Nat) (L st : List Value) (h : gd_H) : go gd_P0 d 80 37 L st h = gs gd_P0 d 80 37 L (i_iflt 141 40 L st h) := go_eq gd_P0 d 80 37 L st h
theorem x80_40 (d : Nat) (L st : List Value) (h : gd_H) : go gd_P0 d 80 40 L st h = gs gd_P0 d 80 40 L (i_ild 7 42 L st h) := go_eq gd_P0 d 80 40 L st h
theorem x80_42 (d : Nat) (L st : List Value) (h : gd_H) : go gd_P0 d 80 42 L st h = gs gd_P0 d 80 42 L (i_psh (.int 2) 43 L st h) := go_eq gd_P0 d 80 42 L st h
theorem x80_43 (d : Nat) (L st : List Value) (h : gd_H) : go gd_P0 d 80 43 L st h = gs gd_P0 d 80 43 L (i_idiv 44 L st h) := go_eq gd_P0 d 80 43 L st h
theorem x80_44 (d : Nat) (L st : List Value) (h : gd_H) : go gd_P0 d 80 44 L st h = gs gd_P0 d 80 44 L (i_ist 8 46 L st h) := go_eq gd_P0 d 80 44 L st h
theorem x80_46 (d : Nat) (L st : List Value) (h : gd_H) : go gd_P0 d 80 46 L st h = gs gd_P0 d 80 46 L (i_ild 7 48 L st h) := go_eq gd_P0 d 80 46 L st h
theorem x80_48 (d : Nat) (L st : List Value) (h : gd_H) : go gd_P0 d 80 48 L st h = gs gd_P0 d 80 48 L (i_psh (.int 2) 49 L st h) := go_eq gd_P0 d 80 48 L st h
theorem x80_49 (d : Nat) (L st : List Value) (h : gd_H) : go gd_P0 d 80 49 L st h = gs gd_P0 d 80 49 L (i_irem 50 L st h) := go_eq gd_P0 d 80 49 L st h
theorem x80_50 (d : Nat) (L st : List Value) (h : gd_H) : go gd_P0 d 80 50 L st h = gs gd_P0 d 80 50 L (i_ist 9 52 L st h) := go_eq gd_P0 d 80 50 L st h
theorem x80_52 (d : Nat) (L st : List Value) (h : gd_H) : go gd_P0 d 80 52 L st h = gs gd_P0 d 80 52 L (i_psh (.int 1) 53 L st h) := go_eq gd_P0 d 80 52 L st h
theorem x80_53 (d : Nat) (L st : List Value) (h : gd_H) : go gd_P0 d 80 53 L st h = gs gd_P0 d 80 53 L (i_ild 8 55 L st h) := go_eq gd_P0 d 80 53 L st h
theorem x80_55 (d : Nat) (L st : List Value) (h : gd_H) : go gd_P0 d 80 55 L st h = gs gd_P0 d 80 55 L (i_isub 56 L st h) := go_eq gd_P0 d 80 55 L st h
theorem x80_56 (d : Nat) (L st : List Value) (h : gd_H) : go gd_P0 d 80 56 L st h = gs gd_P0 d 80 56 L (i_ild 9 58 L st h) := go_eq gd_P0 d 80 56 L st h
theorem x80_58 (d : Nat) (L st : List Value) (h : gd_H) : go gd_P0 d 80 58 L st h = gs gd_P0 d 80 58 L (i_ild 1 59 L st h) := go_eq gd_P0 d 80 58 L st h
theorem x80_59 (d : Nat) (L st : List Value) (h : gd_H) : go gd_P0 d 80 59 L st h = gs gd_P0 d 80 59 L (i_ild 2 60 L st h) := go_eq gd_P0 d 80 59 L st h
theorem x80_60 (d : Nat) (L st : List Value) (h : gd_H) : go gd_P0 d 80 60 L st h = gs gd_P0 d 80 60 L (i_cS 81 4 63 L st h) := go_eq gd_P0 d 80 60 L st h
theorem x80_63 (d : Nat) (L st : List Value) (h : gd_H) : go gd_P0 d 80 63 L st h = gs gd_P0 d 80 63 L (i_msk [false, true, true, true, true, true, true, true, true, true] (i_ild 8 65) L st h) := go_eq gd_P0 d 80 63 L st h
theorem x80_65 (d : Nat) (L st : List Value) (h : gd_H) : go gd_P0 d 80 65 L st h = gs gd_P0 d 80 65 L (i_ild 9 67 L st h) := go_eq gd_P0 d 80 65 L st h
theorem x80_67 (d : Nat) (L st : List Value) (h : gd_H) : go gd_P0 d 80 67 L st h = gs gd_P0 d 80 67 L (i_ild 1 68 L st h) := go_eq gd_P0 d 80 67 L st h
theorem x80_68 (d : Nat) (L st : List Value) (h : gd_H) : go gd_P0 d 80 68 L st h = gs gd_P0 d 80 68 L (i_ild 2 69 L st h) := go_eq gd_P0 d 80 68 L st h
theorem x80_69 (d : Nat) (L st : List Value) (h : gd_H) : go gd_P0 d 80 69 L st h = gs gd_P0 d 80 69 L (i_cS 81 4 72 L st h) := go_eq gd_P0 d 80 69 L st h
theorem x80_72 (d : Nat) (L st : List Value) (h : gd_H) : go gd_P0 d 80 72 L st h = gs gd_P0 d 80 72 L (i_msk [false, true, true, true, true, true, true, true, true, true] (i_icgt 135 75) L st h) := go_eq gd_P0 d 80 72 L st h
theorem x80_75 (d : Nat) (L st : List Value) (h : gd_H) : go gd_P0 d 80 75 L st h = gs gd_P0 d 80 75 L (i_psh (.int 1) 76 L st h) := go_eq gd_P0 d 80 75 L st h
theorem x80_76 (d : Nat) (L st : List Value) (h : gd_H) : go gd_P0 d 80 76 L st h = gs gd_P0 d 80 76 L (i_ild 9 78 L st h) := go_eq gd_P0 d 80 76 L st h
theorem x80_78 (d : Nat) (L st : List Value) (h : gd_H) : go gd_P0 d 80 78 L st h = gs gd_P0 d 80 78 L (i_isub 79 L st h) := go_eq gd_P0 d 80 78 L st h
theorem x80_79 (d : Nat) (L st : List Value) (h : gd_H) : go gd_P0 d 80 79 L st h = gs gd_P0 d 80 79 L (i_ild 8 81 L st h) := go_eq gd_P0 d 80 79 L st h
theorem x80_81 (d : Nat) (L st : List Value) (h : gd_H) : go gd_P0 d 80 81 L st h = gs gd_P0 d 80 81 L (i_ild 1 82 L st h) := go_eq gd_P0 d 80 81 L st h
theorem x80_82 (d : Nat) (L st : List Value) (h : gd_H) : go gd_P0 d 80 82 L st h = gs gd_P0 d 80 82 L (i_ild 2 83 L st h) := go_eq gd_P0 d 80 82 L st h
theorem x80_83 (d : Nat) (L st : List Value) (h : gd_H) : go gd_P0 d 80 83 L st h = gs gd_P0 d 80 83 L (i_cS 81 4 86 L st h) := go_eq gd_P0 d 80 83 L st h
theorem x80_86 (d : Nat) (L st : List Value) (h : gd_H) : go gd_P0 d 80 86 L st h = gs gd_P0 d 80 86 L (i_msk [false, true, true, true, true, true, true, true, true, true] (i_ild 9 88) L st h) := go_eq gd_P0 d 80 86 L st h
theorem x80_88 (d : Nat) (L st : List Value) (h : gd_H) : go gd_P0 d 80 88 L st h = gs gd_P0 d 80 88 L (i_ild 8 90 L st h) := go_eq gd_P0 d 80 88 L st h
theorem x80_90 (d : Nat) (L st : List Value) (h : gd_H) : go gd_P0 d 80 90 L st h = gs gd_P0 d 80 90 L (i_ild 1 91 L st h) := go_eq gd_P0 d 80 90 L st h
theorem x80_91 (d : Nat) (L st : List Value) (h : gd_H) : go gd_P0 d 80 91 L st h = gs gd_P0 d 80 91 L (i_ild 2 92 L st h) := go_eq gd_P0 d 80 91 L st h
theorem x80_92 (d : Nat) (L st : List Value) (h : gd_H) : go gd_P0 d 80 92 L st h = gs gd_P0 d 80 92 L (i_cS 81 4 95 L st h) := go_eq gd_P0 d 80 92 L st h
theorem x80_95 (d : Nat) (L st : List Value) (h : gd_H) : go gd_P0 d 80 95 L st h = gs gd_P0 d 80 95 L (i_msk [false, true, true, true, true, true, true, true, true, true] (i_icle 101 98) L st h) := go_eq gd_P0 d 80 95 L st h
theorem x80_98 (d : Nat) (L st : List Value) (h : gd_H) : go gd_P0 d 80 98 L st h = gs gd_P0 d 80 98 L (i_goto 135 L st h) := go_eq gd_P0 d 80 98 L st h
theorem x80_101 (d : Nat) (L st : List Value) (h : gd_H) : go gd_P0 d 80 101 L st h = gs gd_P0 d 80 101 L (i_inc 4 1 104 L st h) := go_eq gd_P0 d 80 101 L st h
theorem x80_104 (d : Nat) (L st : List Value) (h : gd_H) : go gd_P0 d 80 104 L st h = gs gd_P0 d 80 104 L (i_psh (.int 10) 106 L st h) := go_eq gd_P0 d 80 104 L st h
theorem x80_106 (d : Nat) (L st : List Value) (h : gd_H) : go gd_P0 d 80 106 L st h = gs gd_P0 d 80 106 L (i_ild 8 108 L st h) := go_eq gd_P0 d 80 106 L st h
theorem x80_108 (d : Nat) (L st : List Value) (h : gd_H) : go gd_P0 d 80 108 L st h = gs gd_P0 d 80 108 L (i_imul 109 L st h) := go_eq gd_P0 d 80 108 L st h
theorem x80_109 (d : Nat) (L st : List Value) (h : gd_H) : go gd_P0 d 80 109 L st h = gs gd_P0 d 80 109 L (i_ild 9 111 L st h) := go_eq gd_P0 d 80 109 L st h
theorem x80_111 (d : Nat) (L st : List Value) (h : gd_H) : go gd_P0 d 80 111 L st h = gs gd_P0 d 80 111 L (i_iadd 112 L st h) := go_eq gd_P0 d 80 111 L st h
theorem x80_112 (d : Nat) (L st : List Value) (h : gd_H) : go gd_P0 d 80 112 L st h = gs gd_P0 d 80 112 L (i_ist 5 114 L st h) := go_eq gd_P0 d 80 112 L st h
theorem x80_114 (d : Nat) (L st : List Value) (h : gd_H) : go gd_P0 d 80 114 L st h = gs gd_P0 d 80 114 L (i_ild 8 116 L st h) := go_eq gd_P0 d 80 114 L st h
theorem x80_116 (d : Nat) (L st : List Value) (h : gd_H) : go gd_P0 d 80 116 L st h = gs gd_P0 d 80 116 L (i_ild 9 118 L st h) := go_eq gd_P0 d 80 116 L st h
theorem x80_118 (d : Nat) (L st : List Value) (h : gd_H) : go gd_P0 d 80 118 L st h = gs gd_P0 d 80 118 L (i_ild 1 119 L st h) := go_eq gd_P0 d 80 118 L st h
theorem x80_119 (d : Nat) (L st : List Value) (h : gd_H) : go gd_P0 d 80 119 L st h = gs gd_P0 d 80 119 L (i_ild 2 120 L st h) := go_eq gd_P0 d 80 119 L st h
theorem x80_120 (d : Nat) (L st : List Value) (h : gd_H) : go gd_P0 d 80 120 L st h = gs gd_P0 d 80 120 L (i_cS 81 4 123 L st h) := go_eq gd_P0 d 80 120 L st h
theorem x80_123 (d : Nat) (L st : List Value) (h : gd_H) : go gd_P0 d 80 123 L st h = gs gd_P0 d 80 123 L (i_msk [false, true, true, true, true, true, false, true, true, true] (i_ild 9 125) L st h) := go_eq gd_P0 d 80 123 L st h
theorem x80_125 (d : Nat) (L st : List Value) (h : gd_H) : go gd_P0 d 80 125 L st h = gs gd_P0 d 80 125 L (i_ild 8 127 L st h) := go_eq gd_P0 d 80 125 L st h
theorem x80_127 (d : Nat) (L st : List Value) (h : gd_H) : go gd_P0 d 80 127 L st h = gs gd_P0 d 80 127 L (i_ild 1 128 L st h) := go_eq gd_P0 d 80 127 L st h
theorem x80_128 (d : Nat) (L st : List Value) (h : gd_H) : go gd_P0 d 80 128 L st h = gs gd_P0 d 80 128 L (i_ild 2 129 L st h) := go_eq gd_P0 d 80 128 L st h
theorem x80_129 (d : Nat) (L st : List Value) (h : gd_H) : go gd_P0 d 80 129 L st h = gs gd_P0 d 80 129 L (i_cS 81 4 132 L st h) := go_eq gd_P0 d 80 129 L st h
theorem x80_132 (d : Nat) (L st : List Value) (h : gd_H) : go gd_P0 d 80 132 L st h = gs gd_P0 d 80 132 L (i_msk [false, true, true, true, true, true, false, true, false, false] (i_iadd 133) L st h) := go_eq gd_P0 d 80 132 L st h
theorem x80_133 (d : Nat) (L st : List Value) (h : gd_H) : go gd_P0 d 80 133 L st h = gs gd_P0 d 80 133 L (i_ist 6 135 L st h) := go_eq gd_P0 d 80 133 L st h
theorem x80_135 (d : Nat) (L st : List Value) (h : gd_H) : go gd_P0 d 80 135 L st h = gs gd_P0 d 80 135 L (i_msk [false, true, true, true, true, true, true, true, false, false] (i_inc 7 (-1) 138) L st h) := go_eq gd_P0 d 80 135 L st h
theorem x80_138 (d : Nat) (L st : List Value) (h : gd_H) : go gd_P0 d 80 138 L st h = gs gd_P0 d 80 138 L (i_goto 35 L st h) := go_eq gd_P0 d 80 138 L st h
theorem x80_141 (d : Nat) (L st : List Value) (h : gd_H) : go gd_P0 d 80 141 L st h = gs gd_P0 d 80 141 L (i_ild 3 142 L st h) := go_eq gd_P0 d 80 141 L st h
theorem x80_142 (d : Nat) (L st : List Value) (h : gd_H) : go gd_P0 d 80 142 L st h = gs gd_P0 d 80 142 L (i_ifne 150 145 L st h) := go_eq gd_P0 d 80 142 L st h
theorem x80_145 (d : Nat) (L st : List Value) (h : gd_H) : go gd_P0 d 80 145 L st h = gs gd_P0 d 80 145 L (i_ild 4 147 L st h) := go_eq gd_P0 d 80 145 L st h
theorem x80_147 (d : Nat) (L st : List Value) (h : gd_H) : go gd_P0 d 80 147 L st h = gs gd_P0 d 80 147 L (i_goto 162 L st h) := go_eq gd_P0 d 80 147 L st h
theorem x80_150 (d : Nat) (L st : List Value) (h : gd_H) : go gd_P0 d 80 150 L st h = gs gd_P0 d 80 150 L (i_ild 3 151 L st h) := go_eq gd_P0 d 80 150 L st h
theorem x80_151 (d : Nat) (L st : List Value) (h : gd_H) : go gd_P0 d 80 151 L st h = gs gd_P0 d 80 151 L (i_psh (.int 1) 152 L st h) := go_eq gd_P0 d 80 151 L st h
theorem x80_152 (d : Nat) (L st : List Value) (h : gd_H) : go gd_P0 d 80 152 L st h = gs gd_P0 d 80 152 L (i_icne 160 155 L st h) := go_eq gd_P0 d 80 152 L st h
theorem x80_155 (d : Nat) (L st : List Value) (h : gd_H) : go gd_P0 d 80 155 L st h = gs gd_P0 d 80 155 L (i_ild 5 157 L st h) := go_eq gd_P0 d 80 155 L st h
theorem x80_157 (d : Nat) (L st : List Value) (h : gd_H) : go gd_P0 d 80 157 L st h = gs gd_P0 d 80 157 L (i_goto 162 L st h) := go_eq gd_P0 d 80 157 L st h
theorem x80_160 (d : Nat) (L st : List Value) (h : gd_H) : go gd_P0 d 80 160 L st h = gs gd_P0 d 80 160 L (i_ild 6 162 L st h) := go_eq gd_P0 d 80 160 L st h
theorem x80_162 (d : Nat) (L st : List Value) (h : gd_H) : go gd_P0 d 80 162 L st h = gs gd_P0 d 80 162 L (i_msk [false, false, false, false, false, false, false, false, false, false] (i_iret) L st h) := go_eq gd_P0 d 80 162 L st h
theorem s80_0 (d : Nat) (h : gd_H) (v0 : Nat) (v1 : Int32) (v2 : Int32) (v3 : Int32) : go gd_P0 d 80 0 [.ref v0, .int v1, .int v2, .int v3, .null, .null, .null, .null, .null, .null] [] h =
    if gT h v0 = 1 then gc gd_P0 d 80 5 8 [.ref v0, .int v1, .int v2, .int v3, .null, .null, .null, .null, .null, .null] [] (run gd_P0 d 53 [.ref v0, .int v1, .int 0, .int 99] h) else none :=
  (x80_0 ..).trans ((x80_1 ..).trans ((x80_2 ..).trans ((x80_3 ..).trans ((x80_5 ..).trans ((gs_if ..).trans ((ia9 (by simp)).trans (ic9 rfl rfl)))))))
theorem s80_8 (d : Nat) (h : gd_H) (v0 : Nat) (v1 : Int32) (v2 : Int32) (v3 : Int32) (w4 : Value) (w5 : Value) (w6 : Value) (w7 : Value) (w8 : Value) (w9 : Value) : go gd_P0 d 80 8 [.ref v0, .int v1, .int v2, .int v3, w4, w5, w6, w7, w8, w9] [] h =
    if gT h v0 = 1 then gc gd_P0 d 80 13 16 [.ref v0, .int v1, .int v2, .int v3, .null, .null, .null, .null, .null, .null] [] (run gd_P0 d 53 [.ref v0, .int v2, .int 0, .int 99] h) else none :=
  (x80_8 ..).trans ((x80_9 ..).trans ((x80_10 ..).trans ((x80_11 ..).trans ((x80_13 ..).trans ((gs_if ..).trans ((ia9 (by simp)).trans (ic9 rfl rfl)))))))
theorem s80_16 (d : Nat) (h : gd_H) (v0 : Nat) (v1 : Int32) (v2 : Int32) (v3 : Int32) (w4 : Value) (w5 : Value) (w6 : Value) (w7 : Value) (w8 : Value) (w9 : Value) : go gd_P0 d 80 16 [.ref v0, .int v1, .int v2, .int v3, w4, w5, w6, w7, w8, w9] [] h =
    if gT h v0 = 1 then gc gd_P0 d 80 20 23 [.ref v0, .int v1, .int v2, .int v3, .null, .null, .null, .null, .null, .null] [] (run gd_P0 d 53 [.ref v0, .int v3, .int 0, .int 2] h) else none :=
  (x80_16 ..).trans ((x80_17 ..).trans ((x80_18 ..).trans ((x80_19 ..).trans ((x80_20 ..).trans ((gs_if ..).trans ((ia9 (by simp)).trans (ic9 rfl rfl)))))))
theorem s80_23 (d : Nat) (h : gd_H) (w0 : Value) (v1 : Int32) (v2 : Int32) (v3 : Int32) (w4 : Value) (w5 : Value) (w6 : Value) (w7 : Value) (w8 : Value) (w9 : Value) : go gd_P0 d 80 23 [w0, .int v1, .int v2, .int v3, w4, w5, w6, w7, w8, w9] [] h =
    go gd_P0 d 80 35 [.null, .int v1, .int v2, .int v3, .int 0, .int (-1), .int 0, .int 3, .null, .null] [] h :=
  (x80_23 ..).trans ((x80_24 ..).trans ((x80_26 ..).trans ((x80_27 ..).trans ((x80_29 ..).trans ((x80_30 ..).trans ((x80_32 ..).trans ((x80_33 ..))))))))
theorem s80_35 (d : Nat) (h : gd_H) (w0 : Value) (v1 : Int32) (v2 : Int32) (v3 : Int32) (v4 : Int32) (v5 : Int32) (v6 : Int32) (v7 : Int32) (w8 : Value) (w9 : Value) : go gd_P0 d 80 35 [w0, .int v1, .int v2, .int v3, .int v4, .int v5, .int v6, .int v7, w8, w9] [] h =
    if v7 < 0 then if v3 = 0 then go gd_P0 d 80 162 [.null, .int v1, .int v2, .int v3, .int v4, .int v5, .int v6, .int v7, .null, .null] [.int v4] h else if v3 = 1 then go gd_P0 d 80 162 [.null, .int v1, .int v2, .int v3, .int v4, .int v5, .int v6, .int v7, .null, .null] [.int v5] h else go gd_P0 d 80 162 [.null, .int v1, .int v2, .int v3, .int v4, .int v5, .int v6, .int v7, .null, .null] [.int v6] h else gc gd_P0 d 80 60 63 [.null, .int v1, .int v2, .int v3, .int v4, .int v5, .int v6, .int v7, .int (v7 / 2), .int (v7 - v7 / 2 * 2)] [] (run gd_P0 d 81 [.int (1 - (v7 / 2)), .int (v7 - v7 / 2 * 2), .int v1, .int v2] h) :=
  (x80_35 ..).trans ((x80_37 ..).trans ((gs_if ..).trans (ic9 ((x80_141 ..).trans ((x80_142 ..).trans ((gs_if ..).trans (ic9 ((x80_145 ..).trans ((x80_147 ..))) ((x80_150 ..).trans ((x80_151 ..).trans ((x80_152 ..).trans ((gs_if ..).trans (ic9 ((x80_155 ..).trans ((x80_157 ..))) ((x80_160 ..))))))))))) ((x80_40 ..).trans ((x80_42 ..).trans ((x80_43 ..).trans ((gs_div (y := (2 : Int32)) (by decide)).trans ((x80_44 ..).trans ((x80_46 ..).trans ((x80_48 ..).trans ((x80_49 ..).trans ((gs_rem (y := (2 : Int32)) (by decide)).trans ((x80_50 ..).trans ((x80_52 ..).trans ((x80_53 ..).trans ((x80_55 ..).trans ((x80_56 ..).trans ((x80_58 ..).trans ((x80_59 ..).trans ((x80_60 ..)))))))))))))))))))))
theorem s80_63 (d : Nat) (h : gd_H) (w0 : Value) (v1 : Int32) (v2 : Int32) (v3 : Int32) (v4 : Int32) (v5 : Int32) (v6 : Int32) (v7 : Int32) (v8 : Int32) (v9 : Int32) (z0 : Int32) : go gd_P0 d 80 63 [w0, .int v1, .int v2, .int v3, .int v4, .int v5, .int v6, .int v7, .int v8, .int v9] [.int z0] h =
    gc gd_P0 d 80 69 72 [.null, .int v1, .int v2, .int v3, .int v4, .int v5, .int v6, .int v7, .int v8, .int v9] [.int z0] (run gd_P0 d 81 [.int v8, .int v9, .int v1, .int v2] h) :=
  (x80_63 ..).trans ((x80_65 ..).trans ((x80_67 ..).trans ((x80_68 ..).trans ((x80_69 ..)))))
theorem s80_72 (d : Nat) (h : gd_H) (w0 : Value) (v1 : Int32) (v2 : Int32) (v3 : Int32) (v4 : Int32) (v5 : Int32) (v6 : Int32) (v7 : Int32) (v8 : Int32) (v9 : Int32) (z0 : Int32) (z1 : Int32) : go gd_P0 d 80 72 [w0, .int v1, .int v2, .int v3, .int v4, .int v5, .int v6, .int v7, .int v8, .int v9] [.int z0, .int z1] h =
    if z0 < z1 then go gd_P0 d 80 135 [.null, .int v1, .int v2, .int v3, .int v4, .int v5, .int v6, .int v7, .int v8, .int v9] [] h else gc gd_P0 d 80 83 86 [.null, .int v1, .int v2, .int v3, .int v4, .int v5, .int v6, .int v7, .int v8, .int v9] [] (run gd_P0 d 81 [.int (1 - v9), .int v8, .int v1, .int v2] h) :=
  (x80_72 ..).trans ((gs_nif ..).trans (ic9 (rfl) ((x80_75 ..).trans ((x80_76 ..).trans ((x80_78 ..).trans ((x80_79 ..).trans ((x80_81 ..).trans ((x80_82 ..).trans ((x80_83 ..))))))))))
theorem s80_86 (d : Nat) (h : gd_H) (w0 : Value) (v1 : Int32) (v2 : Int32) (v3 : Int32) (v4 : Int32) (v5 : Int32) (v6 : Int32) (v7 : Int32) (v8 : Int32) (v9 : Int32) (z0 : Int32) : go gd_P0 d 80 86 [w0, .int v1, .int v2, .int v3, .int v4, .int v5, .int v6, .int v7, .int v8, .int v9] [.int z0] h =
    gc gd_P0 d 80 92 95 [.null, .int v1, .int v2, .int v3, .int v4, .int v5, .int v6, .int v7, .int v8, .int v9] [.int z0] (run gd_P0 d 81 [.int v9, .int v8, .int v1, .int v2] h) :=
  (x80_86 ..).trans ((x80_88 ..).trans ((x80_90 ..).trans ((x80_91 ..).trans ((x80_92 ..)))))
theorem s80_95 (d : Nat) (h : gd_H) (w0 : Value) (v1 : Int32) (v2 : Int32) (v3 : Int32) (v4 : Int32) (v5 : Int32) (v6 : Int32) (v7 : Int32) (v8 : Int32) (v9 : Int32) (z0 : Int32) (z1 : Int32) : go gd_P0 d 80 95 [w0, .int v1, .int v2, .int v3, .int v4, .int v5, .int v6, .int v7, .int v8, .int v9] [.int z0, .int z1] h =
    if z1 ≤ z0 then gc gd_P0 d 80 120 123 [.null, .int v1, .int v2, .int v3, .int (v4 + 1), .int ((10 * v8) + v9), .int v6, .int v7, .int v8, .int v9] [] (run gd_P0 d 81 [.int v8, .int v9, .int v1, .int v2] h) else go gd_P0 d 80 135 [.null, .int v1, .int v2, .int v3, .int v4, .int v5, .int v6, .int v7, .int v8, .int v9] [] h :=
  (x80_95 ..).trans ((gs_nif ..).trans (ic9 ((x80_101 ..).trans ((x80_104 ..).trans ((x80_106 ..).trans ((x80_108 ..).trans ((x80_109 ..).trans ((x80_111 ..).trans ((x80_112 ..).trans ((x80_114 ..).trans ((x80_116 ..).trans ((x80_118 ..).trans ((x80_119 ..).trans ((x80_120 ..))))))))))))) ((x80_98 ..))))
theorem s80_123 (d : Nat) (h : gd_H) (w0 : Value) (v1 : Int32) (v2 : Int32) (v3 : Int32) (v4 : Int32) (v5 : Int32) (w6 : Value) (v7 : Int32) (v8 : Int32) (v9 : Int32) (z0 : Int32) : go gd_P0 d 80 123 [w0, .int v1, .int v2, .int v3, .int v4, .int v5, w6, .int v7, .int v8, .int v9] [.int z0] h =
    gc gd_P0 d 80 129 132 [.null, .int v1, .int v2, .int v3, .int v4, .int v5, .null, .int v7, .int v8, .int v9] [.int z0] (run gd_P0 d 81 [.int v9, .int v8, .int v1, .int v2] h) :=
  (x80_123 ..).trans ((x80_125 ..).trans ((x80_127 ..).trans ((x80_128 ..).trans ((x80_129 ..)))))
theorem s80_132 (d : Nat) (h : gd_H) (w0 : Value) (v1 : Int32) (v2 : Int32) (v3 : Int32) (v4 : Int32) (v5 : Int32) (w6 : Value) (v7 : Int32) (w8 : Value) (w9 : Value) (z0 : Int32) (z1 : Int32) : go gd_P0 d 80 132 [w0, .int v1, .int v2, .int v3, .int v4, .int v5, w6, .int v7, w8, w9] [.int z0, .int z1] h =
    go gd_P0 d 80 135 [.null, .int v1, .int v2, .int v3, .int v4, .int v5, .int (z1 + z0), .int v7, .null, .null] [] h :=
  (x80_132 ..).trans ((x80_133 ..))
theorem s80_135 (d : Nat) (h : gd_H) (w0 : Value) (v1 : Int32) (v2 : Int32) (v3 : Int32) (v4 : Int32) (v5 : Int32) (v6 : Int32) (v7 : Int32) (w8 : Value) (w9 : Value) : go gd_P0 d 80 135 [w0, .int v1, .int v2, .int v3, .int v4, .int v5, .int v6, .int v7, w8, w9] [] h =
    go gd_P0 d 80 35 [.null, .int v1, .int v2, .int v3, .int v4, .int v5, .int v6, .int (v7 + (-1)), .null, .null] [] h :=
  (x80_135 ..).trans ((x80_138 ..))
theorem s80_162 (d : Nat) (h : gd_H) (w0 : Value) (w1 : Value) (w2 : Value) (w3 : Value) (w4 : Value) (w5 : Value) (w6 : Value) (w7 : Value) (w8 : Value) (w9 : Value) (z0 : Int32) : go gd_P0 d 80 162 [w0, w1, w2, w3, w4, w5, w6, w7, w8, w9] [.int z0] h =
    some (.inl (some (.int z0)), h) :=
  (x80_162 ..)
theorem r80 (d : Nat) (h : gd_H) (v0 : Nat) (v1 : Int32) (v2 : Int32) (v3 : Int32) : run gd_P0 (d + 1) 80 [.ref v0, .int v1, .int v2, .int v3] h = go gd_P0 d 80 0 [.ref v0, .int v1, .int v2, .int v3, .null, .null, .null, .null, .null, .null] [] h := run_succ gd_P0 d 80 [.ref v0, .int v1, .int v2, .int v3] h (Nat.le_of_ble_eq_true rfl)
theorem x81_0 (d : Nat) (L st : List Value) (h : gd_H) : go gd_P0 d 81 0 L st h = gs gd_P0 d 81 0 L (i_ild 0 1 L st h) := go_eq gd_P0 d 81 0 L st h
theorem x81_1 (d : Nat) (L st : List Value) (h : gd_H) : go gd_P0 d 81 1 L st h = gs gd_P0 d 81 1 L (i_ild 1 2 L st h) := go_eq gd_P0 d 81 1 L st h
theorem x81_2 (d : Nat) (L st : List Value) (h : gd_H) : go gd_P0 d 81 2 L st h = gs gd_P0 d 81 2 L (i_icne 18 5 L st h) := go_eq gd_P0 d 81 2 L st h
theorem x81_5 (d : Nat) (L st : List Value) (h : gd_H) : go gd_P0 d 81 5 L st h = gs gd_P0 d 81 5 L (i_ild 0 6 L st h) := go_eq gd_P0 d 81 5 L st h
theorem x81_6 (d : Nat) (L st : List Value) (h : gd_H) : go gd_P0 d 81 6 L st h = gs gd_P0 d 81 6 L (i_psh (.int 1) 7 L st h) := go_eq gd_P0 d 81 6 L st h
theorem x81_7 (d : Nat) (L st : List Value) (h : gd_H) : go gd_P0 d 81 7 L st h = gs gd_P0 d 81 7 L (i_icne 14 10 L st h) := go_eq gd_P0 d 81 7 L st h
theorem x81_10 (d : Nat) (L st : List Value) (h : gd_H) : go gd_P0 d 81 10 L st h = gs gd_P0 d 81 10 L (i_ild 2 11 L st h) := go_eq gd_P0 d 81 10 L st h
theorem x81_11 (d : Nat) (L st : List Value) (h : gd_H) : go gd_P0 d 81 11 L st h = gs gd_P0 d 81 11 L (i_goto 28 L st h) := go_eq gd_P0 d 81 11 L st h
theorem x81_14 (d : Nat) (L st : List Value) (h : gd_H) : go gd_P0 d 81 14 L st h = gs gd_P0 d 81 14 L (i_psh (.int 0) 15 L st h) := go_eq gd_P0 d 81 14 L st h
theorem x81_15 (d : Nat) (L st : List Value) (h : gd_H) : go gd_P0 d 81 15 L st h = gs gd_P0 d 81 15 L (i_goto 28 L st h) := go_eq gd_P0 d 81 15 L st h
theorem x81_18 (d : Nat) (L st : List Value) (h : gd_H) : go gd_P0 d 81 18 L st h = gs gd_P0 d 81 18 L (i_ild 0 19 L st h) := go_eq gd_P0 d 81 18 L st h
theorem x81_19 (d : Nat) (L st : List Value) (h : gd_H) : go gd_P0 d 81 19 L st h = gs gd_P0 d 81 19 L (i_ifne 26 22 L st h) := go_eq gd_P0 d 81 19 L st h
theorem x81_22 (d : Nat) (L st : List Value) (h : gd_H) : go gd_P0 d 81 22 L st h = gs gd_P0 d 81 22 L (i_ild 3 23 L st h) := go_eq gd_P0 d 81 22 L st h
theorem x81_23 (d : Nat) (L st : List Value) (h : gd_H) : go gd_P0 d 81 23 L st h = gs gd_P0 d 81 23 L (i_goto 28 L st h) := go_eq gd_P0 d 81 23 L st h
theorem x81_26 (d : Nat) (L st : List Value) (h : gd_H) : go gd_P0 d 81 26 L st h = gs gd_P0 d 81 26 L (i_ild 3 27 L st h) := go_eq gd_P0 d 81 26 L st h
theorem x81_27 (d : Nat) (L st : List Value) (h : gd_H) : go gd_P0 d 81 27 L st h = gs gd_P0 d 81 27 L (i_ineg 28 L st h) := go_eq gd_P0 d 81 27 L st h
theorem x81_28 (d : Nat) (L st : List Value) (h : gd_H) : go gd_P0 d 81 28 L st h = gs gd_P0 d 81 28 L (i_msk [false, false, false, false] (i_iret) L st h) := go_eq gd_P0 d 81 28 L st h
theorem s81_0 (d : Nat) (h : gd_H) (v0 : Int32) (v1 : Int32) (v2 : Int32) (v3 : Int32) : go gd_P0 d 81 0 [.int v0, .int v1, .int v2, .int v3] [] h =
    if v0 = v1 then if v0 = 1 then go gd_P0 d 81 28 [.int v0, .int v1, .int v2, .int v3] [.int v2] h else go gd_P0 d 81 28 [.int v0, .int v1, .int v2, .int v3] [.int 0] h else if v0 = 0 then go gd_P0 d 81 28 [.int v0, .int v1, .int v2, .int v3] [.int v3] h else go gd_P0 d 81 28 [.int v0, .int v1, .int v2, .int v3] [.int (-v3)] h :=
  (x81_0 ..).trans ((x81_1 ..).trans ((x81_2 ..).trans ((gs_if ..).trans (ic9 ((x81_5 ..).trans ((x81_6 ..).trans ((x81_7 ..).trans ((gs_if ..).trans (ic9 ((x81_10 ..).trans ((x81_11 ..))) ((x81_14 ..).trans ((x81_15 ..)))))))) ((x81_18 ..).trans ((x81_19 ..).trans ((gs_if ..).trans (ic9 ((x81_22 ..).trans ((x81_23 ..))) ((x81_26 ..).trans ((x81_27 ..)))))))))))
theorem s81_28 (d : Nat) (h : gd_H) (w0 : Value) (w1 : Value) (w2 : Value) (w3 : Value) (z0 : Int32) : go gd_P0 d 81 28 [w0, w1, w2, w3] [.int z0] h =
    some (.inl (some (.int z0)), h) :=
  (x81_28 ..)
theorem r81 (d : Nat) (h : gd_H) (v0 : Int32) (v1 : Int32) (v2 : Int32) (v3 : Int32) : run gd_P0 (d + 1) 81 [.int v0, .int v1, .int v2, .int v3] h = go gd_P0 d 81 0 [.int v0, .int v1, .int v2, .int v3] [] h := run_succ gd_P0 d 81 [.int v0, .int v1, .int v2, .int v3] h (Nat.le_of_ble_eq_true rfl)
theorem x82_0 (d : Nat) (L st : List Value) (h : gd_H) : go gd_P0 d 82 0 L st h = gs gd_P0 d 82 0 L (i_ald 0 1 L st h) := go_eq gd_P0 d 82 0 L st h
theorem x82_1 (d : Nat) (L st : List Value) (h : gd_H) : go gd_P0 d 82 1 L st h = gs gd_P0 d 82 1 L (i_ild 1 2 L st h) := go_eq gd_P0 d 82 1 L st h
theorem x82_2 (d : Nat) (L st : List Value) (h : gd_H) : go gd_P0 d 82 2 L st h = gs gd_P0 d 82 2 L (i_cV 64 1 1 5 L st h) := go_eq gd_P0 d 82 2 L st h
theorem x82_5 (d : Nat) (L st : List Value) (h : gd_H) : go gd_P0 d 82 5 L st h = gs gd_P0 d 82 5 L (i_msk [true, true, true, true, false, false, false] (i_ald 0 6) L st h) := go_eq gd_P0 d 82 5 L st h
theorem x82_6 (d : Nat) (L st : List Value) (h : gd_H) : go gd_P0 d 82 6 L st h = gs gd_P0 d 82 6 L (i_ild 2 7 L st h) := go_eq gd_P0 d 82 6 L st h
theorem x82_7 (d : Nat) (L st : List Value) (h : gd_H) : go gd_P0 d 82 7 L st h = gs gd_P0 d 82 7 L (i_psh (.int 0) 8 L st h) := go_eq gd_P0 d 82 7 L st h
theorem x82_8 (d : Nat) (L st : List Value) (h : gd_H) : go gd_P0 d 82 8 L st h = gs gd_P0 d 82 8 L (i_psh (.int 1) 9 L st h) := go_eq gd_P0 d 82 8 L st h
theorem x82_9 (d : Nat) (L st : List Value) (h : gd_H) : go gd_P0 d 82 9 L st h = gs gd_P0 d 82 9 L (i_ald 0 10 L st h) := go_eq gd_P0 d 82 9 L st h
theorem x82_10 (d : Nat) (L st : List Value) (h : gd_H) : go gd_P0 d 82 10 L st h = gs gd_P0 d 82 10 L (i_getR 1 15 13 L st h) := go_eq gd_P0 d 82 10 L st h
theorem x82_13 (d : Nat) (L st : List Value) (h : gd_H) : go gd_P0 d 82 13 L st h = gs gd_P0 d 82 13 L (i_getI 6 7 16 L st h) := go_eq gd_P0 d 82 13 L st h
theorem x82_16 (d : Nat) (L st : List Value) (h : gd_H) : go gd_P0 d 82 16 L st h = gs gd_P0 d 82 16 L (i_ishl 17 L st h) := go_eq gd_P0 d 82 16 L st h
theorem x82_17 (d : Nat) (L st : List Value) (h : gd_H) : go gd_P0 d 82 17 L st h = gs gd_P0 d 82 17 L (i_psh (.int 1) 18 L st h) := go_eq gd_P0 d 82 17 L st h
theorem x82_18 (d : Nat) (L st : List Value) (h : gd_H) : go gd_P0 d 82 18 L st h = gs gd_P0 d 82 18 L (i_isub 19 L st h) := go_eq gd_P0 d 82 18 L st h
theorem x82_19 (d : Nat) (L st : List Value) (h : gd_H) : go gd_P0 d 82 19 L st h = gs gd_P0 d 82 19 L (i_cV 53 3 1 22 L st h) := go_eq gd_P0 d 82 19 L st h
theorem x82_22 (d : Nat) (L st : List Value) (h : gd_H) : go gd_P0 d 82 22 L st h = gs gd_P0 d 82 22 L (i_msk [true, true, true, true, false, false, false] (i_ald 0 23) L st h) := go_eq gd_P0 d 82 22 L st h
theorem x82_23 (d : Nat) (L st : List Value) (h : gd_H) : go gd_P0 d 82 23 L st h = gs gd_P0 d 82 23 L (i_ild 3 24 L st h) := go_eq gd_P0 d 82 23 L st h
theorem x82_24 (d : Nat) (L st : List Value) (h : gd_H) : go gd_P0 d 82 24 L st h = gs gd_P0 d 82 24 L (i_psh (.int 0) 25 L st h) := go_eq gd_P0 d 82 24 L st h
theorem x82_25 (d : Nat) (L st : List Value) (h : gd_H) : go gd_P0 d 82 25 L st h = gs gd_P0 d 82 25 L (i_psh (.int 9999) 28 L st h) := go_eq gd_P0 d 82 25 L st h
theorem x82_28 (d : Nat) (L st : List Value) (h : gd_H) : go gd_P0 d 82 28 L st h = gs gd_P0 d 82 28 L (i_cV 53 3 1 31 L st h) := go_eq gd_P0 d 82 28 L st h
theorem x82_31 (d : Nat) (L st : List Value) (h : gd_H) : go gd_P0 d 82 31 L st h = gs gd_P0 d 82 31 L (i_msk [true, true, true, true, false, false, false] (i_psh (.int 0) 32) L st h) := go_eq gd_P0 d 82 31 L st h
theorem x82_32 (d : Nat) (L st : List Value) (h : gd_H) : go gd_P0 d 82 32 L st h = gs gd_P0 d 82 32 L (i_ist 4 34 L st h) := go_eq gd_P0 d 82 32 L st h
theorem x82_34 (d : Nat) (L st : List Value) (h : gd_H) : go gd_P0 d 82 34 L st h = gs gd_P0 d 82 34 L (i_psh (.int 999) 37 L st h) := go_eq gd_P0 d 82 34 L st h
theorem x82_37 (d : Nat) (L st : List Value) (h : gd_H) : go gd_P0 d 82 37 L st h = gs gd_P0 d 82 37 L (i_ist 5 39 L st h) := go_eq gd_P0 d 82 37 L st h
theorem x82_39 (d : Nat) (L st : List Value) (h : gd_H) : go gd_P0 d 82 39 L st h = gs gd_P0 d 82 39 L (i_msk [true, true, true, true, true, true, false] (i_ild 4 41) L st h) := go_eq gd_P0 d 82 39 L st h
theorem x82_41 (d : Nat) (L st : List Value) (h : gd_H) : go gd_P0 d 82 41 L st h = gs gd_P0 d 82 41 L (i_ild 5 43 L st h) := go_eq gd_P0 d 82 41 L st h
theorem x82_43 (d : Nat) (L st : List Value) (h : gd_H) : go gd_P0 d 82 43 L st h = gs gd_P0 d 82 43 L (i_icge 84 46 L st h) := go_eq gd_P0 d 82 43 L st h
theorem x82_46 (d : Nat) (L st : List Value) (h : gd_H) : go gd_P0 d 82 46 L st h = gs gd_P0 d 82 46 L (i_ild 4 48 L st h) := go_eq gd_P0 d 82 46 L st h
theorem x82_48 (d : Nat) (L st : List Value) (h : gd_H) : go gd_P0 d 82 48 L st h = gs gd_P0 d 82 48 L (i_ild 5 50 L st h) := go_eq gd_P0 d 82 48 L st h
theorem x82_50 (d : Nat) (L st : List Value) (h : gd_H) : go gd_P0 d 82 50 L st h = gs gd_P0 d 82 50 L (i_iadd 51 L st h) := go_eq gd_P0 d 82 50 L st h
theorem x82_51 (d : Nat) (L st : List Value) (h : gd_H) : go gd_P0 d 82 51 L st h = gs gd_P0 d 82 51 L (i_psh (.int 1) 52 L st h) := go_eq gd_P0 d 82 51 L st h
theorem x82_52 (d : Nat) (L st : List Value) (h : gd_H) : go gd_P0 d 82 52 L st h = gs gd_P0 d 82 52 L (i_iadd 53 L st h) := go_eq gd_P0 d 82 52 L st h
theorem x82_53 (d : Nat) (L st : List Value) (h : gd_H) : go gd_P0 d 82 53 L st h = gs gd_P0 d 82 53 L (i_psh (.int 2) 54 L st h) := go_eq gd_P0 d 82 53 L st h
theorem x82_54 (d : Nat) (L st : List Value) (h : gd_H) : go gd_P0 d 82 54 L st h = gs gd_P0 d 82 54 L (i_idiv 55 L st h) := go_eq gd_P0 d 82 54 L st h
theorem x82_55 (d : Nat) (L st : List Value) (h : gd_H) : go gd_P0 d 82 55 L st h = gs gd_P0 d 82 55 L (i_ist 6 57 L st h) := go_eq gd_P0 d 82 55 L st h
theorem x82_57 (d : Nat) (L st : List Value) (h : gd_H) : go gd_P0 d 82 57 L st h = gs gd_P0 d 82 57 L (i_ald 0 58 L st h) := go_eq gd_P0 d 82 57 L st h
theorem x82_58 (d : Nat) (L st : List Value) (h : gd_H) : go gd_P0 d 82 58 L st h = gs gd_P0 d 82 58 L (i_ild 2 59 L st h) := go_eq gd_P0 d 82 58 L st h
theorem x82_59 (d : Nat) (L st : List Value) (h : gd_H) : go gd_P0 d 82 59 L st h = gs gd_P0 d 82 59 L (i_ild 6 61 L st h) := go_eq gd_P0 d 82 59 L st h
theorem x82_61 (d : Nat) (L st : List Value) (h : gd_H) : go gd_P0 d 82 61 L st h = gs gd_P0 d 82 61 L (i_cV 83 2 1 64 L st h) := go_eq gd_P0 d 82 61 L st h
theorem x82_64 (d : Nat) (L st : List Value) (h : gd_H) : go gd_P0 d 82 64 L st h = gs gd_P0 d 82 64 L (i_msk [true, true, true, true, true, true, true] (i_ild 3 65) L st h) := go_eq gd_P0 d 82 64 L st h
theorem x82_65 (d : Nat) (L st : List Value) (h : gd_H) : go gd_P0 d 82 65 L st h = gs gd_P0 d 82 65 L (i_icgt 75 68 L st h) := go_eq gd_P0 d 82 65 L st h
theorem x82_68 (d : Nat) (L st : List Value) (h : gd_H) : go gd_P0 d 82 68 L st h = gs gd_P0 d 82 68 L (i_ild 6 70 L st h) := go_eq gd_P0 d 82 68 L st h
theorem x82_70 (d : Nat) (L st : List Value) (h : gd_H) : go gd_P0 d 82 70 L st h = gs gd_P0 d 82 70 L (i_ist 4 72 L st h) := go_eq gd_P0 d 82 70 L st h
theorem x82_72 (d : Nat) (L st : List Value) (h : gd_H) : go gd_P0 d 82 72 L st h = gs gd_P0 d 82 72 L (i_goto 81 L st h) := go_eq gd_P0 d 82 72 L st h
theorem x82_75 (d : Nat) (L st : List Value) (h : gd_H) : go gd_P0 d 82 75 L st h = gs gd_P0 d 82 75 L (i_ild 6 77 L st h) := go_eq gd_P0 d 82 75 L st h
theorem x82_77 (d : Nat) (L st : List Value) (h : gd_H) : go gd_P0 d 82 77 L st h = gs gd_P0 d 82 77 L (i_psh (.int 1) 78 L st h) := go_eq gd_P0 d 82 77 L st h
theorem x82_78 (d : Nat) (L st : List Value) (h : gd_H) : go gd_P0 d 82 78 L st h = gs gd_P0 d 82 78 L (i_isub 79 L st h) := go_eq gd_P0 d 82 78 L st h
theorem x82_79 (d : Nat) (L st : List Value) (h : gd_H) : go gd_P0 d 82 79 L st h = gs gd_P0 d 82 79 L (i_ist 5 81 L st h) := go_eq gd_P0 d 82 79 L st h
theorem x82_81 (d : Nat) (L st : List Value) (h : gd_H) : go gd_P0 d 82 81 L st h = gs gd_P0 d 82 81 L (i_msk [true, true, true, true, true, true, false] (i_goto 39) L st h) := go_eq gd_P0 d 82 81 L st h
theorem x82_84 (d : Nat) (L st : List Value) (h : gd_H) : go gd_P0 d 82 84 L st h = gs gd_P0 d 82 84 L (i_ild 2 85 L st h) := go_eq gd_P0 d 82 84 L st h
theorem x82_85 (d : Nat) (L st : List Value) (h : gd_H) : go gd_P0 d 82 85 L st h = gs gd_P0 d 82 85 L (i_ild 1 86 L st h) := go_eq gd_P0 d 82 85 L st h
theorem x82_86 (d : Nat) (L st : List Value) (h : gd_H) : go gd_P0 d 82 86 L st h = gs gd_P0 d 82 86 L (i_ishr 87 L st h) := go_eq gd_P0 d 82 86 L st h
theorem x82_87 (d : Nat) (L st : List Value) (h : gd_H) : go gd_P0 d 82 87 L st h = gs gd_P0 d 82 87 L (i_psh (.int 1) 88 L st h) := go_eq gd_P0 d 82 87 L st h
theorem x82_88 (d : Nat) (L st : List Value) (h : gd_H) : go gd_P0 d 82 88 L st h = gs gd_P0 d 82 88 L (i_iand 89 L st h) := go_eq gd_P0 d 82 88 L st h
theorem x82_89 (d : Nat) (L st : List Value) (h : gd_H) : go gd_P0 d 82 89 L st h = gs gd_P0 d 82 89 L (i_ifne 96 92 L st h) := go_eq gd_P0 d 82 89 L st h
theorem x82_92 (d : Nat) (L st : List Value) (h : gd_H) : go gd_P0 d 82 92 L st h = gs gd_P0 d 82 92 L (i_psh (.int 0) 93 L st h) := go_eq gd_P0 d 82 92 L st h
theorem x82_93 (d : Nat) (L st : List Value) (h : gd_H) : go gd_P0 d 82 93 L st h = gs gd_P0 d 82 93 L (i_goto 113 L st h) := go_eq gd_P0 d 82 93 L st h
theorem x82_96 (d : Nat) (L st : List Value) (h : gd_H) : go gd_P0 d 82 96 L st h = gs gd_P0 d 82 96 L (i_ild 4 98 L st h) := go_eq gd_P0 d 82 96 L st h
theorem x82_98 (d : Nat) (L st : List Value) (h : gd_H) : go gd_P0 d 82 98 L st h = gs gd_P0 d 82 98 L (i_ald 0 99 L st h) := go_eq gd_P0 d 82 98 L st h
theorem x82_99 (d : Nat) (L st : List Value) (h : gd_H) : go gd_P0 d 82 99 L st h = gs gd_P0 d 82 99 L (i_getR 1 2 102 L st h) := go_eq gd_P0 d 82 99 L st h
theorem x82_102 (d : Nat) (L st : List Value) (h : gd_H) : go gd_P0 d 82 102 L st h = gs gd_P0 d 82 102 L (i_cV 145 0 3 105 L st h) := go_eq gd_P0 d 82 102 L st h
theorem x82_105 (d : Nat) (L st : List Value) (h : gd_H) : go gd_P0 d 82 105 L st h = gs gd_P0 d 82 105 L (i_msk [false, true, false, false, false, false, false] (i_getR 4 1 108) L st h) := go_eq gd_P0 d 82 105 L st h
theorem x82_108 (d : Nat) (L st : List Value) (h : gd_H) : go gd_P0 d 82 108 L st h = gs gd_P0 d 82 108 L (i_ild 1 109 L st h) := go_eq gd_P0 d 82 108 L st h
theorem x82_109 (d : Nat) (L st : List Value) (h : gd_H) : go gd_P0 d 82 109 L st h = gs gd_P0 d 82 109 L (i_aldI 31 110 L st h) := go_eq gd_P0 d 82 109 L st h
theorem x82_110 (d : Nat) (L st : List Value) (h : gd_H) : go gd_P0 d 82 110 L st h = gs gd_P0 d 82 110 L (i_mmin 113 L st h) := go_eq gd_P0 d 82 110 L st h
theorem x82_113 (d : Nat) (L st : List Value) (h : gd_H) : go gd_P0 d 82 113 L st h = gs gd_P0 d 82 113 L (i_msk [false, false, false, false, false, false, false] (i_iret) L st h) := go_eq gd_P0 d 82 113 L st h
theorem s82_0 (d : Nat) (h : gd_H) (v0 : Nat) (v1 : Int32) (v2 : Int32) (v3 : Int32) : go gd_P0 d 82 0 [.ref v0, .int v1, .int v2, .int v3, .null, .null, .null] [] h =
    if gT h v0 = 1 then gc gd_P0 d 82 2 5 [.ref v0, .int v1, .int v2, .int v3, .null, .null, .null] [] (run gd_P0 d 64 [.ref v0, .int v1] h) else none :=
  (x82_0 ..).trans ((x82_1 ..).trans ((x82_2 ..).trans ((gs_if ..).trans ((ia9 (by simp)).trans (ic9 rfl rfl)))))
theorem s82_5 (d : Nat) (h : gd_H) (v0 : Nat) (v1 : Int32) (v2 : Int32) (v3 : Int32) (w4 : Value) (w5 : Value) (w6 : Value) : go gd_P0 d 82 5 [.ref v0, .int v1, .int v2, .int v3, w4, w5, w6] [] h =
    if gT h v0 = 1 then if gT h (gR h v0 15) = 6 then if gT h v0 = 1 then gc gd_P0 d 82 19 22 [.ref v0, .int v1, .int v2, .int v3, .null, .null, .null] [] (run gd_P0 d 53 [.ref v0, .int v2, .int 0, .int (((1 : Int32) <<< ((gI h (gR h v0 15) 7) &&& 31)) - 1)] h) else none else none else none :=
  (x82_5 ..).trans ((x82_6 ..).trans ((x82_7 ..).trans ((x82_8 ..).trans ((x82_9 ..).trans ((x82_10 ..).trans ((gs_if ..).trans (ic9 ((x82_13 ..).trans ((gs_if ..).trans (ic9 ((x82_16 ..).trans ((x82_17 ..).trans ((x82_18 ..).trans ((x82_19 ..).trans ((gs_if ..).trans ((ia9 (by simp)).trans (ic9 rfl rfl))))))) rfl))) rfl)))))))
theorem s82_22 (d : Nat) (h : gd_H) (v0 : Nat) (v1 : Int32) (v2 : Int32) (v3 : Int32) (w4 : Value) (w5 : Value) (w6 : Value) : go gd_P0 d 82 22 [.ref v0, .int v1, .int v2, .int v3, w4, w5, w6] [] h =
    if gT h v0 = 1 then gc gd_P0 d 82 28 31 [.ref v0, .int v1, .int v2, .int v3, .null, .null, .null] [] (run gd_P0 d 53 [.ref v0, .int v3, .int 0, .int 9999] h) else none :=
  (x82_22 ..).trans ((x82_23 ..).trans ((x82_24 ..).trans ((x82_25 ..).trans ((x82_28 ..).trans ((gs_if ..).trans ((ia9 (by simp)).trans (ic9 rfl rfl)))))))
theorem s82_31 (d : Nat) (h : gd_H) (v0 : Nat) (v1 : Int32) (v2 : Int32) (v3 : Int32) (w4 : Value) (w5 : Value) (w6 : Value) : go gd_P0 d 82 31 [.ref v0, .int v1, .int v2, .int v3, w4, w5, w6] [] h =
    go gd_P0 d 82 39 [.ref v0, .int v1, .int v2, .int v3, .int 0, .int 999, .null] [] h :=
  (x82_31 ..).trans ((x82_32 ..).trans ((x82_34 ..).trans ((x82_37 ..))))
theorem s82_39 (d : Nat) (h : gd_H) (v0 : Nat) (v1 : Int32) (v2 : Int32) (v3 : Int32) (v4 : Int32) (v5 : Int32) (w6 : Value) : go gd_P0 d 82 39 [.ref v0, .int v1, .int v2, .int v3, .int v4, .int v5, w6] [] h =
    if v5 ≤ v4 then if ((v2 >>> (v1 &&& 31)) &&& (1 : Int32)) = 0 then go gd_P0 d 82 113 [.ref v0, .int v1, .int v2, .int v3, .int v4, .int v5, .null] [.int 0] h else if gT h v0 = 1 then if gT h (gR h v0 2) = 3 then gc gd_P0 d 82 102 105 [.ref v0, .int v1, .int v2, .int v3, .int v4, .int v5, .null] [.int v4] (run gd_P0 d 145 [.ref (gR h v0 2)] h) else none else none else if gT h v0 = 1 then gc gd_P0 d 82 61 64 [.ref v0, .int v1, .int v2, .int v3, .int v4, .int v5, .int (((v4 + v5) + 1) / 2)] [] (run gd_P0 d 83 [.ref v0, .int v2, .int (((v4 + v5) + 1) / 2)] h) else none :=
  (x82_39 ..).trans ((x82_41 ..).trans ((x82_43 ..).trans ((gs_if ..).trans (ic9 ((x82_84 ..).trans ((x82_85 ..).trans ((x82_86 ..).trans ((x82_87 ..).trans ((x82_88 ..).trans ((x82_89 ..).trans ((gs_if ..).trans (ic9 ((x82_92 ..).trans ((x82_93 ..))) ((x82_96 ..).trans ((x82_98 ..).trans ((x82_99 ..).trans ((gs_if ..).trans (ic9 ((x82_102 ..).trans ((gs_if ..).trans ((ia9 (by simp)).trans (ic9 rfl rfl)))) rfl))))))))))))) ((x82_46 ..).trans ((x82_48 ..).trans ((x82_50 ..).trans ((x82_51 ..).trans ((x82_52 ..).trans ((x82_53 ..).trans ((x82_54 ..).trans ((gs_div (y := (2 : Int32)) (by decide)).trans ((x82_55 ..).trans ((x82_57 ..).trans ((x82_58 ..).trans ((x82_59 ..).trans ((x82_61 ..).trans ((gs_if ..).trans ((ia9 (by simp)).trans (ic9 rfl rfl))))))))))))))))))))
theorem s82_64 (d : Nat) (h : gd_H) (v0 : Nat) (v1 : Int32) (v2 : Int32) (v3 : Int32) (v4 : Int32) (v5 : Int32) (v6 : Int32) (z0 : Int32) : go gd_P0 d 82 64 [.ref v0, .int v1, .int v2, .int v3, .int v4, .int v5, .int v6] [.int z0] h =
    if v3 < z0 then go gd_P0 d 82 81 [.ref v0, .int v1, .int v2, .int v3, .int v4, .int (v6 - 1), .int v6] [] h else go gd_P0 d 82 81 [.ref v0, .int v1, .int v2, .int v3, .int v6, .int v5, .int v6] [] h :=
  (x82_64 ..).trans ((x82_65 ..).trans ((gs_if ..).trans (ic9 ((x82_75 ..).trans ((x82_77 ..).trans ((x82_78 ..).trans ((x82_79 ..))))) ((x82_68 ..).trans ((x82_70 ..).trans ((x82_72 ..)))))))
theorem s82_81 (d : Nat) (h : gd_H) (v0 : Nat) (v1 : Int32) (v2 : Int32) (v3 : Int32) (v4 : Int32) (v5 : Int32) (w6 : Value) : go gd_P0 d 82 81 [.ref v0, .int v1, .int v2, .int v3, .int v4, .int v5, w6] [] h =
    go gd_P0 d 82 39 [.ref v0, .int v1, .int v2, .int v3, .int v4, .int v5, .null] [] h :=
  (x82_81 ..)
theorem s82_105 (d : Nat) (h : gd_H) (w0 : Value) (v1 : Int32) (w2 : Value) (w3 : Value) (w4 : Value) (w5 : Value) (w6 : Value) (z0 : Nat) (z1 : Int32) : go gd_P0 d 82 105 [w0, .int v1, w2, w3, w4, w5, w6] [.ref z0, .int z1] h =
    if gT h z0 = 4 then if gT h (gR h z0 1) = 31 ∧ ¬ (v1 < 0 ∨ gL h (gR h z0 1) ≤ Int32.toNatClampNeg v1) then go gd_P0 d 82 113 [.null, .int v1, .null, .null, .null, .null, .null] [.int (if (gI h (gR h z0 1) (Int32.toNatClampNeg v1)) < z1 then (gI h (gR h z0 1) (Int32.toNatClampNeg v1)) else z1)] h else none else none :=
  (x82_105 ..).trans ((gs_nif ..).trans (ic9 ((x82_108 ..).trans ((x82_109 ..).trans ((gs_if ..).trans (ic9 ((x82_110 ..)) rfl)))) rfl))
theorem s82_113 (d : Nat) (h : gd_H) (w0 : Value) (w1 : Value) (w2 : Value) (w3 : Value) (w4 : Value) (w5 : Value) (w6 : Value) (z0 : Int32) : go gd_P0 d 82 113 [w0, w1, w2, w3, w4, w5, w6] [.int z0] h =
    some (.inl (some (.int z0)), h) :=
  (x82_113 ..)
theorem r82 (d : Nat) (h : gd_H) (v0 : Nat) (v1 : Int32) (v2 : Int32) (v3 : Int32) : run gd_P0 (d + 1) 82 [.ref v0, .int v1, .int v2, .int v3] h = go gd_P0 d 82 0 [.ref v0, .int v1, .int v2, .int v3, .null, .null, .null] [] h := run_succ gd_P0 d 82 [.ref v0, .int v1, .int v2, .int v3] h (Nat.le_of_ble_eq_true rfl)
theorem x83_0 (d : Nat) (L st : List Value) (h : gd_H) : go gd_P0 d 83 0 L st h = gs gd_P0 d 83 0 L (i_psh (.int 0) 1 L st h) := go_eq gd_P0 d 83 0 L st h
theorem x83_1 (d : Nat) (L st : List Value) (h : gd_H) : go gd_P0 d 83 1 L st h = gs gd_P0 d 83 1 L (i_ist 3 2 L st h) := go_eq gd_P0 d 83 1 L st h
theorem x83_2 (d : Nat) (L st : List Value) (h : gd_H) : go gd_P0 d 83 2 L st h = gs gd_P0 d 83 2 L (i_psh (.int 0) 3 L st h) := go_eq gd_P0 d 83 2 L st h
theorem x83_3 (d : Nat) (L st : List Value) (h : gd_H) : go gd_P0 d 83 3 L st h = gs gd_P0 d 83 3 L (i_ist 4 5 L st h) := go_eq gd_P0 d 83 3 L st h
theorem x83_5 (d : Nat) (L st : List Value) (h : gd_H) : go gd_P0 d 83 5 L st h = gs gd_P0 d 83 5 L (i_msk [true, true, true, true, true] (i_ild 4 7) L st h) := go_eq gd_P0 d 83 5 L st h
theorem x83_7 (d : Nat) (L st : List Value) (h : gd_H) : go gd_P0 d 83 7 L st h = gs gd_P0 d 83 7 L (i_ald 0 8 L st h) := go_eq gd_P0 d 83 7 L st h
theorem x83_8 (d : Nat) (L st : List Value) (h : gd_H) : go gd_P0 d 83 8 L st h = gs gd_P0 d 83 8 L (i_getR 1 15 11 L st h) := go_eq gd_P0 d 83 8 L st h
theorem x83_11 (d : Nat) (L st : List Value) (h : gd_H) : go gd_P0 d 83 11 L st h = gs gd_P0 d 83 11 L (i_getI 6 7 14 L st h) := go_eq gd_P0 d 83 11 L st h
theorem x83_14 (d : Nat) (L st : List Value) (h : gd_H) : go gd_P0 d 83 14 L st h = gs gd_P0 d 83 14 L (i_icge 53 17 L st h) := go_eq gd_P0 d 83 14 L st h
theorem x83_17 (d : Nat) (L st : List Value) (h : gd_H) : go gd_P0 d 83 17 L st h = gs gd_P0 d 83 17 L (i_ild 1 18 L st h) := go_eq gd_P0 d 83 17 L st h
theorem x83_18 (d : Nat) (L st : List Value) (h : gd_H) : go gd_P0 d 83 18 L st h = gs gd_P0 d 83 18 L (i_ild 4 20 L st h) := go_eq gd_P0 d 83 18 L st h
theorem x83_20 (d : Nat) (L st : List Value) (h : gd_H) : go gd_P0 d 83 20 L st h = gs gd_P0 d 83 20 L (i_ishr 21 L st h) := go_eq gd_P0 d 83 20 L st h
theorem x83_21 (d : Nat) (L st : List Value) (h : gd_H) : go gd_P0 d 83 21 L st h = gs gd_P0 d 83 21 L (i_psh (.int 1) 22 L st h) := go_eq gd_P0 d 83 21 L st h
theorem x83_22 (d : Nat) (L st : List Value) (h : gd_H) : go gd_P0 d 83 22 L st h = gs gd_P0 d 83 22 L (i_iand 23 L st h) := go_eq gd_P0 d 83 22 L st h
theorem x83_23 (d : Nat) (L st : List Value) (h : gd_H) : go gd_P0 d 83 23 L st h = gs gd_P0 d 83 23 L (i_psh (.int 1) 24 L st h) := go_eq gd_P0 d 83 23 L st h
theorem x83_24 (d : Nat) (L st : List Value) (h : gd_H) : go gd_P0 d 83 24 L st h = gs gd_P0 d 83 24 L (i_icne 47 27 L st h) := go_eq gd_P0 d 83 24 L st h
theorem x83_27 (d : Nat) (L st : List Value) (h : gd_H) : go gd_P0 d 83 27 L st h = gs gd_P0 d 83 27 L (i_ild 3 28 L st h) := go_eq gd_P0 d 83 27 L st h
theorem x83_28 (d : Nat) (L st : List Value) (h : gd_H) : go gd_P0 d 83 28 L st h = gs gd_P0 d 83 28 L (i_ild 2 29 L st h) := go_eq gd_P0 d 83 28 L st h
theorem x83_29 (d : Nat) (L st : List Value) (h : gd_H) : go gd_P0 d 83 29 L st h = gs gd_P0 d 83 29 L (i_ald 0 30 L st h) := go_eq gd_P0 d 83 29 L st h
theorem x83_30 (d : Nat) (L st : List Value) (h : gd_H) : go gd_P0 d 83 30 L st h = gs gd_P0 d 83 30 L (i_getR 1 2 33 L st h) := go_eq gd_P0 d 83 30 L st h
theorem x83_33 (d : Nat) (L st : List Value) (h : gd_H) : go gd_P0 d 83 33 L st h = gs gd_P0 d 83 33 L (i_cV 145 0 3 36 L st h) := go_eq gd_P0 d 83 33 L st h
theorem x83_36 (d : Nat) (L st : List Value) (h : gd_H) : go gd_P0 d 83 36 L st h = gs gd_P0 d 83 36 L (i_msk [true, true, true, false, true] (i_getR 4 1 39) L st h) := go_eq gd_P0 d 83 36 L st h
theorem x83_39 (d : Nat) (L st : List Value) (h : gd_H) : go gd_P0 d 83 39 L st h = gs gd_P0 d 83 39 L (i_ild 4 41 L st h) := go_eq gd_P0 d 83 39 L st h
theorem x83_41 (d : Nat) (L st : List Value) (h : gd_H) : go gd_P0 d 83 41 L st h = gs gd_P0 d 83 41 L (i_aldI 31 42 L st h) := go_eq gd_P0 d 83 41 L st h
theorem x83_42 (d : Nat) (L st : List Value) (h : gd_H) : go gd_P0 d 83 42 L st h = gs gd_P0 d 83 42 L (i_mmin 45 L st h) := go_eq gd_P0 d 83 42 L st h
theorem x83_45 (d : Nat) (L st : List Value) (h : gd_H) : go gd_P0 d 83 45 L st h = gs gd_P0 d 83 45 L (i_msk [true, true, true, false, true] (i_iadd 46) L st h) := go_eq gd_P0 d 83 45 L st h
theorem x83_46 (d : Nat) (L st : List Value) (h : gd_H) : go gd_P0 d 83 46 L st h = gs gd_P0 d 83 46 L (i_ist 3 47 L st h) := go_eq gd_P0 d 83 46 L st h
theorem x83_47 (d : Nat) (L st : List Value) (h : gd_H) : go gd_P0 d 83 47 L st h = gs gd_P0 d 83 47 L (i_msk [true, true, true, true, true] (i_inc 4 1 50) L st h) := go_eq gd_P0 d 83 47 L st h
theorem x83_50 (d : Nat) (L st : List Value) (h : gd_H) : go gd_P0 d 83 50 L st h = gs gd_P0 d 83 50 L (i_goto 5 L st h) := go_eq gd_P0 d 83 50 L st h
theorem x83_53 (d : Nat) (L st : List Value) (h : gd_H) : go gd_P0 d 83 53 L st h = gs gd_P0 d 83 53 L (i_ild 3 54 L st h) := go_eq gd_P0 d 83 53 L st h
theorem x83_54 (d : Nat) (L st : List Value) (h : gd_H) : go gd_P0 d 83 54 L st h = gs gd_P0 d 83 54 L (i_iret L st h) := go_eq gd_P0 d 83 54 L st h
theorem s83_0 (d : Nat) (h : gd_H) (v0 : Nat) (v1 : Int32) (v2 : Int32) : go gd_P0 d 83 0 [.ref v0, .int v1, .int v2, .null, .null] [] h =
    go gd_P0 d 83 5 [.ref v0, .int v1, .int v2, .int 0, .int 0] [] h :=
  (x83_0 ..).trans ((x83_1 ..).trans ((x83_2 ..).trans ((x83_3 ..))))
theorem s83_5 (d : Nat) (h : gd_H) (v0 : Nat) (v1 : Int32) (v2 : Int32) (v3 : Int32) (v4 : Int32) : go gd_P0 d 83 5 [.ref v0, .int v1, .int v2, .int v3, .int v4] [] h =
    if gT h v0 = 1 then if gT h (gR h v0 15) = 6 then if (gI h (gR h v0 15) 7) ≤ v4 then some (.inl (some (.int v3)), h) else if ((v1 >>> (v4 &&& 31)) &&& (1 : Int32)) = 1 then if gT h v0 = 1 then if gT h (gR h v0 2) = 3 then gc gd_P0 d 83 33 36 [.ref v0, .int v1, .int v2, .int v3, .int v4] [.int v2, .int v3] (run gd_P0 d 145 [.ref (gR h v0 2)] h) else none else none else go gd_P0 d 83 47 [.ref v0, .int v1, .int v2, .int v3, .int v4] [] h else none else none :=
  (x83_5 ..).trans ((x83_7 ..).trans ((x83_8 ..).trans ((gs_if ..).trans (ic9 ((x83_11 ..).trans ((gs_if ..).trans (ic9 ((x83_14 ..).trans ((gs_if ..).trans (ic9 ((x83_53 ..).trans ((x83_54 ..))) ((x83_17 ..).trans ((x83_18 ..).trans ((x83_20 ..).trans ((x83_21 ..).trans ((x83_22 ..).trans ((x83_23 ..).trans ((x83_24 ..).trans ((gs_if ..).trans (ic9 ((x83_27 ..).trans ((x83_28 ..).trans ((x83_29 ..).trans ((x83_30 ..).trans ((gs_if ..).trans (ic9 ((x83_33 ..).trans ((gs_if ..).trans ((ia9 (by simp)).trans (ic9 rfl rfl)))) rfl)))))) (rfl))))))))))))) rfl))) rfl))))
theorem s83_36 (d : Nat) (h : gd_H) (v0 : Nat) (v1 : Int32) (v2 : Int32) (w3 : Value) (v4 : Int32) (z0 : Nat) (z1 : Int32) (z2 : Int32) : go gd_P0 d 83 36 [.ref v0, .int v1, .int v2, w3, .int v4] [.ref z0, .int z1, .int z2] h =
    if gT h z0 = 4 then if gT h (gR h z0 1) = 31 ∧ ¬ (v4 < 0 ∨ gL h (gR h z0 1) ≤ Int32.toNatClampNeg v4) then go gd_P0 d 83 45 [.ref v0, .int v1, .int v2, .null, .int v4] [.int (if (gI h (gR h z0 1) (Int32.toNatClampNeg v4)) < z1 then (gI h (gR h z0 1) (Int32.toNatClampNeg v4)) else z1), .int z2] h else none else none :=
  (x83_36 ..).trans ((gs_nif ..).trans (ic9 ((x83_39 ..).trans ((x83_41 ..).trans ((gs_if ..).trans (ic9 ((x83_42 ..)) rfl)))) rfl))
theorem s83_45 (d : Nat) (h : gd_H) (v0 : Nat) (v1 : Int32) (v2 : Int32) (w3 : Value) (v4 : Int32) (z0 : Int32) (z1 : Int32) : go gd_P0 d 83 45 [.ref v0, .int v1, .int v2, w3, .int v4] [.int z0, .int z1] h =
    go gd_P0 d 83 47 [.ref v0, .int v1, .int v2, .int (z1 + z0), .int v4] [] h :=
  (x83_45 ..).trans ((x83_46 ..))
theorem s83_47 (d : Nat) (h : gd_H) (v0 : Nat) (v1 : Int32) (v2 : Int32) (v3 : Int32) (v4 : Int32) : go gd_P0 d 83 47 [.ref v0, .int v1, .int v2, .int v3, .int v4] [] h =
    go gd_P0 d 83 5 [.ref v0, .int v1, .int v2, .int v3, .int (v4 + 1)] [] h :=
  (x83_47 ..).trans ((x83_50 ..))
theorem r83 (d : Nat) (h : gd_H) (v0 : Nat) (v1 : Int32) (v2 : Int32) : run gd_P0 (d + 1) 83 [.ref v0, .int v1, .int v2] h = go gd_P0 d 83 0 [.ref v0, .int v1, .int v2, .null, .null] [] h := run_succ gd_P0 d 83 [.ref v0, .int v1, .int v2] h (Nat.le_of_ble_eq_true rfl)
theorem x84_0 (d : Nat) (L st : List Value) (h : gd_H) : go gd_P0 d 84 0 L st h = gs gd_P0 d 84 0 L (i_ald 0 1 L st h) := go_eq gd_P0 d 84 0 L st h
theorem x84_1 (d : Nat) (L st : List Value) (h : gd_H) : go gd_P0 d 84 1 L st h = gs gd_P0 d 84 1 L (i_ild 1 2 L st h) := go_eq gd_P0 d 84 1 L st h
theorem x84_2 (d : Nat) (L st : List Value) (h : gd_H) : go gd_P0 d 84 2 L st h = gs gd_P0 d 84 2 L (i_psh (.int 0) 3 L st h) := go_eq gd_P0 d 84 2 L st h
theorem x84_3 (d : Nat) (L st : List Value) (h : gd_H) : go gd_P0 d 84 3 L st h = gs gd_P0 d 84 3 L (i_psh (.int 1) 4 L st h) := go_eq gd_P0 d 84 3 L st h
theorem x84_4 (d : Nat) (L st : List Value) (h : gd_H) : go gd_P0 d 84 4 L st h = gs gd_P0 d 84 4 L (i_cV 53 3 1 7 L st h) := go_eq gd_P0 d 84 4 L st h
theorem x84_7 (d : Nat) (L st : List Value) (h : gd_H) : go gd_P0 d 84 7 L st h = gs gd_P0 d 84 7 L (i_msk [true, true, false, false, false] (i_ald 0 8) L st h) := go_eq gd_P0 d 84 7 L st h
theorem x84_8 (d : Nat) (L st : List Value) (h : gd_H) : go gd_P0 d 84 8 L st h = gs gd_P0 d 84 8 L (i_getR 1 2 11 L st h) := go_eq gd_P0 d 84 8 L st h
theorem x84_11 (d : Nat) (L st : List Value) (h : gd_H) : go gd_P0 d 84 11 L st h = gs gd_P0 d 84 11 L (i_cV 145 0 3 14 L st h) := go_eq gd_P0 d 84 11 L st h
theorem x84_14 (d : Nat) (L st : List Value) (h : gd_H) : go gd_P0 d 84 14 L st h = gs gd_P0 d 84 14 L (i_msk [true, true, false, false, false] (i_getR 4 1 17) L st h) := go_eq gd_P0 d 84 14 L st h
theorem x84_17 (d : Nat) (L st : List Value) (h : gd_H) : go gd_P0 d 84 17 L st h = gs gd_P0 d 84 17 L (i_ast 2 18 L st h) := go_eq gd_P0 d 84 17 L st h
theorem x84_18 (d : Nat) (L st : List Value) (h : gd_H) : go gd_P0 d 84 18 L st h = gs gd_P0 d 84 18 L (i_psh (.int (-1)) 19 L st h) := go_eq gd_P0 d 84 18 L st h
theorem x84_19 (d : Nat) (L st : List Value) (h : gd_H) : go gd_P0 d 84 19 L st h = gs gd_P0 d 84 19 L (i_ist 3 20 L st h) := go_eq gd_P0 d 84 19 L st h
theorem x84_20 (d : Nat) (L st : List Value) (h : gd_H) : go gd_P0 d 84 20 L st h = gs gd_P0 d 84 20 L (i_psh (.int 0) 21 L st h) := go_eq gd_P0 d 84 20 L st h
theorem x84_21 (d : Nat) (L st : List Value) (h : gd_H) : go gd_P0 d 84 21 L st h = gs gd_P0 d 84 21 L (i_ist 4 23 L st h) := go_eq gd_P0 d 84 21 L st h
theorem x84_23 (d : Nat) (L st : List Value) (h : gd_H) : go gd_P0 d 84 23 L st h = gs gd_P0 d 84 23 L (i_msk [true, true, true, true, true] (i_ild 4 25) L st h) := go_eq gd_P0 d 84 23 L st h
theorem x84_25 (d : Nat) (L st : List Value) (h : gd_H) : go gd_P0 d 84 25 L st h = gs gd_P0 d 84 25 L (i_ald 0 26 L st h) := go_eq gd_P0 d 84 25 L st h
theorem x84_26 (d : Nat) (L st : List Value) (h : gd_H) : go gd_P0 d 84 26 L st h = gs gd_P0 d 84 26 L (i_getR 1 15 29 L st h) := go_eq gd_P0 d 84 26 L st h
theorem x84_29 (d : Nat) (L st : List Value) (h : gd_H) : go gd_P0 d 84 29 L st h = gs gd_P0 d 84 29 L (i_getI 6 7 32 L st h) := go_eq gd_P0 d 84 29 L st h
theorem x84_32 (d : Nat) (L st : List Value) (h : gd_H) : go gd_P0 d 84 32 L st h = gs gd_P0 d 84 32 L (i_icge 59 35 L st h) := go_eq gd_P0 d 84 32 L st h
theorem x84_35 (d : Nat) (L st : List Value) (h : gd_H) : go gd_P0 d 84 35 L st h = gs gd_P0 d 84 35 L (i_ild 3 36 L st h) := go_eq gd_P0 d 84 35 L st h
theorem x84_36 (d : Nat) (L st : List Value) (h : gd_H) : go gd_P0 d 84 36 L st h = gs gd_P0 d 84 36 L (i_psh (.int (-1)) 37 L st h) := go_eq gd_P0 d 84 36 L st h
theorem x84_37 (d : Nat) (L st : List Value) (h : gd_H) : go gd_P0 d 84 37 L st h = gs gd_P0 d 84 37 L (i_iceq 50 40 L st h) := go_eq gd_P0 d 84 37 L st h
theorem x84_40 (d : Nat) (L st : List Value) (h : gd_H) : go gd_P0 d 84 40 L st h = gs gd_P0 d 84 40 L (i_ald 2 41 L st h) := go_eq gd_P0 d 84 40 L st h
theorem x84_41 (d : Nat) (L st : List Value) (h : gd_H) : go gd_P0 d 84 41 L st h = gs gd_P0 d 84 41 L (i_ild 4 43 L st h) := go_eq gd_P0 d 84 41 L st h
theorem x84_43 (d : Nat) (L st : List Value) (h : gd_H) : go gd_P0 d 84 43 L st h = gs gd_P0 d 84 43 L (i_aldI 31 44 L st h) := go_eq gd_P0 d 84 43 L st h
theorem x84_44 (d : Nat) (L st : List Value) (h : gd_H) : go gd_P0 d 84 44 L st h = gs gd_P0 d 84 44 L (i_ald 2 45 L st h) := go_eq gd_P0 d 84 44 L st h
theorem x84_45 (d : Nat) (L st : List Value) (h : gd_H) : go gd_P0 d 84 45 L st h = gs gd_P0 d 84 45 L (i_ild 3 46 L st h) := go_eq gd_P0 d 84 45 L st h
theorem x84_46 (d : Nat) (L st : List Value) (h : gd_H) : go gd_P0 d 84 46 L st h = gs gd_P0 d 84 46 L (i_aldI 31 47 L st h) := go_eq gd_P0 d 84 46 L st h
theorem x84_47 (d : Nat) (L st : List Value) (h : gd_H) : go gd_P0 d 84 47 L st h = gs gd_P0 d 84 47 L (i_icle 53 50 L st h) := go_eq gd_P0 d 84 47 L st h
theorem x84_50 (d : Nat) (L st : List Value) (h : gd_H) : go gd_P0 d 84 50 L st h = gs gd_P0 d 84 50 L (i_msk [true, true, true, false, true] (i_ild 4 52) L st h) := go_eq gd_P0 d 84 50 L st h
theorem x84_52 (d : Nat) (L st : List Value) (h : gd_H) : go gd_P0 d 84 52 L st h = gs gd_P0 d 84 52 L (i_ist 3 53 L st h) := go_eq gd_P0 d 84 52 L st h
theorem x84_53 (d : Nat) (L st : List Value) (h : gd_H) : go gd_P0 d 84 53 L st h = gs gd_P0 d 84 53 L (i_msk [true, true, true, true, true] (i_inc 4 1 56) L st h) := go_eq gd_P0 d 84 53 L st h
theorem x84_56 (d : Nat) (L st : List Value) (h : gd_H) : go gd_P0 d 84 56 L st h = gs gd_P0 d 84 56 L (i_goto 23 L st h) := go_eq gd_P0 d 84 56 L st h
theorem x84_59 (d : Nat) (L st : List Value) (h : gd_H) : go gd_P0 d 84 59 L st h = gs gd_P0 d 84 59 L (i_ild 1 60 L st h) := go_eq gd_P0 d 84 59 L st h
theorem x84_60 (d : Nat) (L st : List Value) (h : gd_H) : go gd_P0 d 84 60 L st h = gs gd_P0 d 84 60 L (i_ifeq 68 63 L st h) := go_eq gd_P0 d 84 60 L st h
theorem x84_63 (d : Nat) (L st : List Value) (h : gd_H) : go gd_P0 d 84 63 L st h = gs gd_P0 d 84 63 L (i_ild 3 64 L st h) := go_eq gd_P0 d 84 63 L st h
theorem x84_64 (d : Nat) (L st : List Value) (h : gd_H) : go gd_P0 d 84 64 L st h = gs gd_P0 d 84 64 L (i_psh (.int (-1)) 65 L st h) := go_eq gd_P0 d 84 64 L st h
theorem x84_65 (d : Nat) (L st : List Value) (h : gd_H) : go gd_P0 d 84 65 L st h = gs gd_P0 d 84 65 L (i_icne 72 68 L st h) := go_eq gd_P0 d 84 65 L st h
theorem x84_68 (d : Nat) (L st : List Value) (h : gd_H) : go gd_P0 d 84 68 L st h = gs gd_P0 d 84 68 L (i_msk [false, false, false, true, false] (i_ild 3 69) L st h) := go_eq gd_P0 d 84 68 L st h
theorem x84_69 (d : Nat) (L st : List Value) (h : gd_H) : go gd_P0 d 84 69 L st h = gs gd_P0 d 84 69 L (i_goto 75 L st h) := go_eq gd_P0 d 84 69 L st h
theorem x84_72 (d : Nat) (L st : List Value) (h : gd_H) : go gd_P0 d 84 72 L st h = gs gd_P0 d 84 72 L (i_ald 2 73 L st h) := go_eq gd_P0 d 84 72 L st h
theorem x84_73 (d : Nat) (L st : List Value) (h : gd_H) : go gd_P0 d 84 73 L st h = gs gd_P0 d 84 73 L (i_ild 3 74 L st h) := go_eq gd_P0 d 84 73 L st h
theorem x84_74 (d : Nat) (L st : List Value) (h : gd_H) : go gd_P0 d 84 74 L st h = gs gd_P0 d 84 74 L (i_aldI 31 75 L st h) := go_eq gd_P0 d 84 74 L st h
theorem x84_75 (d : Nat) (L st : List Value) (h : gd_H) : go gd_P0 d 84 75 L st h = gs gd_P0 d 84 75 L (i_msk [false, false, false, false, false] (i_iret) L st h) := go_eq gd_P0 d 84 75 L st h
theorem s84_0 (d : Nat) (h : gd_H) (v0 : Nat) (v1 : Int32) : go gd_P0 d 84 0 [.ref v0, .int v1, .null, .null, .null] [] h =
    if gT h v0 = 1 then gc gd_P0 d 84 4 7 [.ref v0, .int v1, .null, .null, .null] [] (run gd_P0 d 53 [.ref v0, .int v1, .int 0, .int 1] h) else none :=
  (x84_0 ..).trans ((x84_1 ..).trans ((x84_2 ..).trans ((x84_3 ..).trans ((x84_4 ..).trans ((gs_if ..).trans ((ia9 (by simp)).trans (ic9 rfl rfl)))))))
theorem s84_7 (d : Nat) (h : gd_H) (v0 : Nat) (v1 : Int32) (w2 : Value) (w3 : Value) (w4 : Value) : go gd_P0 d 84 7 [.ref v0, .int v1, w2, w3, w4] [] h =
    if gT h v0 = 1 then if gT h (gR h v0 2) = 3 then gc gd_P0 d 84 11 14 [.ref v0, .int v1, .null, .null, .null] [] (run gd_P0 d 145 [.ref (gR h v0 2)] h) else none else none :=
  (x84_7 ..).trans ((x84_8 ..).trans ((gs_if ..).trans (ic9 ((x84_11 ..).trans ((gs_if ..).trans ((ia9 (by simp)).trans (ic9 rfl rfl)))) rfl)))
theorem s84_14 (d : Nat) (h : gd_H) (v0 : Nat) (v1 : Int32) (w2 : Value) (w3 : Value) (w4 : Value) (z0 : Nat) : go gd_P0 d 84 14 [.ref v0, .int v1, w2, w3, w4] [.ref z0] h =
    if gT h z0 = 4 then go gd_P0 d 84 23 [.ref v0, .int v1, .ref (gR h z0 1), .int (-1), .int 0] [] h else none :=
  (x84_14 ..).trans ((gs_nif ..).trans (ic9 ((x84_17 ..).trans ((x84_18 ..).trans ((x84_19 ..).trans ((x84_20 ..).trans ((x84_21 ..)))))) rfl))
theorem s84_23 (d : Nat) (h : gd_H) (v0 : Nat) (v1 : Int32) (v2 : Nat) (v3 : Int32) (v4 : Int32) : go gd_P0 d 84 23 [.ref v0, .int v1, .ref v2, .int v3, .int v4] [] h =
    if gT h v0 = 1 then if gT h (gR h v0 15) = 6 then if (gI h (gR h v0 15) 7) ≤ v4 then if v1 = 0 then go gd_P0 d 84 68 [.ref v0, .int v1, .ref v2, .int v3, .int v4] [] h else if v3 = (-1) then go gd_P0 d 84 68 [.ref v0, .int v1, .ref v2, .int v3, .int v4] [] h else if gT h v2 = 31 ∧ ¬ (v3 < 0 ∨ gL h v2 ≤ Int32.toNatClampNeg v3) then go gd_P0 d 84 75 [.ref v0, .int v1, .ref v2, .int v3, .int v4] [.int (gI h v2 (Int32.toNatClampNeg v3))] h else none else if v3 = (-1) then go gd_P0 d 84 50 [.ref v0, .int v1, .ref v2, .int v3, .int v4] [] h else if gT h v2 = 31 ∧ ¬ (v4 < 0 ∨ gL h v2 ≤ Int32.toNatClampNeg v4) then if gT h v2 = 31 ∧ ¬ (v3 < 0 ∨ gL h v2 ≤ Int32.toNatClampNeg v3) then if (gI h v2 (Int32.toNatClampNeg v4)) ≤ (gI h v2 (Int32.toNatClampNeg v3)) then go gd_P0 d 84 53 [.ref v0, .int v1, .ref v2, .int v3, .int v4] [] h else go gd_P0 d 84 50 [.ref v0, .int v1, .ref v2, .int v3, .int v4] [] h else none else none else none else none :=
  (x84_23 ..).trans ((x84_25 ..).trans ((x84_26 ..).trans ((gs_if ..).trans (ic9 ((x84_29 ..).trans ((gs_if ..).trans (ic9 ((x84_32 ..).trans ((gs_if ..).trans (ic9 ((x84_59 ..).trans ((x84_60 ..).trans ((gs_if ..).trans (ic9 (rfl) ((x84_63 ..).trans ((x84_64 ..).trans ((x84_65 ..).trans ((gs_if ..).trans (ic9 (rfl) ((x84_72 ..).trans ((x84_73 ..).trans ((x84_74 ..).trans ((gs_if ..).trans (ic9 (rfl) rfl)))))))))))))) ((x84_35 ..).trans ((x84_36 ..).trans ((x84_37 ..).trans ((gs_if ..).trans (ic9 (rfl) ((x84_40 ..).trans ((x84_41 ..).trans ((x84_43 ..).trans ((gs_if ..).trans (ic9 ((x84_44 ..).trans ((x84_45 ..).trans ((x84_46 ..).trans ((gs_if ..).trans (ic9 ((x84_47 ..).trans ((gs_if ..).trans (ic9 (rfl) (rfl)))) rfl))))) rfl))))))))))))) rfl))) rfl))))
theorem s84_50 (d : Nat) (h : gd_H) (v0 : Nat) (v1 : Int32) (v2 : Nat) (w3 : Value) (v4 : Int32) : go gd_P0 d 84 50 [.ref v0, .int v1, .ref v2, w3, .int v4] [] h =
    go gd_P0 d 84 53 [.ref v0, .int v1, .ref v2, .int v4, .int v4] [] h :=
  (x84_50 ..).trans ((x84_52 ..))
theorem s84_53 (d : Nat) (h : gd_H) (v0 : Nat) (v1 : Int32) (v2 : Nat) (v3 : Int32) (v4 : Int32) : go gd_P0 d 84 53 [.ref v0, .int v1, .ref v2, .int v3, .int v4] [] h =
    go gd_P0 d 84 23 [.ref v0, .int v1, .ref v2, .int v3, .int (v4 + 1)] [] h :=
  (x84_53 ..).trans ((x84_56 ..))
theorem s84_68 (d : Nat) (h : gd_H) (w0 : Value) (w1 : Value) (w2 : Value) (v3 : Int32) (w4 : Value) : go gd_P0 d 84 68 [w0, w1, w2, .int v3, w4] [] h =
    go gd_P0 d 84 75 [.null, .null, .null, .int v3, .null] [.int v3] h :=
  (x84_68 ..).trans ((x84_69 ..))
theorem s84_75 (d : Nat) (h : gd_H) (w0 : Value) (w1 : Value) (w2 : Value) (w3 : Value) (w4 : Value) (z0 : Int32) : go gd_P0 d 84 75 [w0, w1, w2, w3, w4] [.int z0] h =
    some (.inl (some (.int z0)), h) :=
  (x84_75 ..)
theorem r84 (d : Nat) (h : gd_H) (v0 : Nat) (v1 : Int32) : run gd_P0 (d + 1) 84 [.ref v0, .int v1] h = go gd_P0 d 84 0 [.ref v0, .int v1, .null, .null, .null] [] h := run_succ gd_P0 d 84 [.ref v0, .int v1] h (Nat.le_of_ble_eq_true rfl)
theorem x85_0 (d : Nat) (L st : List Value) (h : gd_H) : go gd_P0 d 85 0 L st h = gs gd_P0 d 85 0 L (i_ald 0 1 L st h) := go_eq gd_P0 d 85 0 L st h
theorem x85_1 (d : Nat) (L st : List Value) (h : gd_H) : go gd_P0 d 85 1 L st h = gs gd_P0 d 85 1 L (i_ild 1 2 L st h) := go_eq gd_P0 d 85 1 L st h
theorem x85_2 (d : Nat) (L st : List Value) (h : gd_H) : go gd_P0 d 85 2 L st h = gs gd_P0 d 85 2 L (i_psh (.int 0) 3 L st h) := go_eq gd_P0 d 85 2 L st h
theorem x85_3 (d : Nat) (L st : List Value) (h : gd_H) : go gd_P0 d 85 3 L st h = gs gd_P0 d 85 3 L (i_psh (.int 2) 4 L st h) := go_eq gd_P0 d 85 3 L st h
theorem x85_4 (d : Nat) (L st : List Value) (h : gd_H) : go gd_P0 d 85 4 L st h = gs gd_P0 d 85 4 L (i_cV 53 3 1 7 L st h) := go_eq gd_P0 d 85 4 L st h
theorem x85_7 (d : Nat) (L st : List Value) (h : gd_H) : go gd_P0 d 85 7 L st h = gs gd_P0 d 85 7 L (i_msk [true, true, false, false, false] (i_ald 0 8) L st h) := go_eq gd_P0 d 85 7 L st h
theorem x85_8 (d : Nat) (L st : List Value) (h : gd_H) : go gd_P0 d 85 8 L st h = gs gd_P0 d 85 8 L (i_getR 1 2 11 L st h) := go_eq gd_P0 d 85 8 L st h
theorem x85_11 (d : Nat) (L st : List Value) (h : gd_H) : go gd_P0 d 85 11 L st h = gs gd_P0 d 85 11 L (i_cV 145 0 3 14 L st h) := go_eq gd_P0 d 85 11 L st h
theorem x85_14 (d : Nat) (L st : List Value) (h : gd_H) : go gd_P0 d 85 14 L st h = gs gd_P0 d 85 14 L (i_msk [true, true, false, false, false] (i_ast 2 15) L st h) := go_eq gd_P0 d 85 14 L st h
theorem x85_15 (d : Nat) (L st : List Value) (h : gd_H) : go gd_P0 d 85 15 L st h = gs gd_P0 d 85 15 L (i_psh (.int 0) 16 L st h) := go_eq gd_P0 d 85 15 L st h
theorem x85_16 (d : Nat) (L st : List Value) (h : gd_H) : go gd_P0 d 85 16 L st h = gs gd_P0 d 85 16 L (i_ist 3 17 L st h) := go_eq gd_P0 d 85 16 L st h
theorem x85_17 (d : Nat) (L st : List Value) (h : gd_H) : go gd_P0 d 85 17 L st h = gs gd_P0 d 85 17 L (i_psh (.int 0) 18 L st h) := go_eq gd_P0 d 85 17 L st h
theorem x85_18 (d : Nat) (L st : List Value) (h : gd_H) : go gd_P0 d 85 18 L st h = gs gd_P0 d 85 18 L (i_ist 4 20 L st h) := go_eq gd_P0 d 85 18 L st h
theorem x85_20 (d : Nat) (L st : List Value) (h : gd_H) : go gd_P0 d 85 20 L st h = gs gd_P0 d 85 20 L (i_msk [true, true, true, true, true] (i_ild 4 22) L st h) := go_eq gd_P0 d 85 20 L st h
theorem x85_22 (d : Nat) (L st : List Value) (h : gd_H) : go gd_P0 d 85 22 L st h = gs gd_P0 d 85 22 L (i_ald 0 23 L st h) := go_eq gd_P0 d 85 22 L st h
theorem x85_23 (d : Nat) (L st : List Value) (h : gd_H) : go gd_P0 d 85 23 L st h = gs gd_P0 d 85 23 L (i_getR 1 15 26 L st h) := go_eq gd_P0 d 85 23 L st h
theorem x85_26 (d : Nat) (L st : List Value) (h : gd_H) : go gd_P0 d 85 26 L st h = gs gd_P0 d 85 26 L (i_getI 6 7 29 L st h) := go_eq gd_P0 d 85 26 L st h
theorem x85_29 (d : Nat) (L st : List Value) (h : gd_H) : go gd_P0 d 85 29 L st h = gs gd_P0 d 85 29 L (i_icge 71 32 L st h) := go_eq gd_P0 d 85 29 L st h
theorem x85_32 (d : Nat) (L st : List Value) (h : gd_H) : go gd_P0 d 85 32 L st h = gs gd_P0 d 85 32 L (i_ald 2 33 L st h) := go_eq gd_P0 d 85 32 L st h
theorem x85_33 (d : Nat) (L st : List Value) (h : gd_H) : go gd_P0 d 85 33 L st h = gs gd_P0 d 85 33 L (i_getR 4 3 36 L st h) := go_eq gd_P0 d 85 33 L st h
theorem x85_36 (d : Nat) (L st : List Value) (h : gd_H) : go gd_P0 d 85 36 L st h = gs gd_P0 d 85 36 L (i_ild 4 38 L st h) := go_eq gd_P0 d 85 36 L st h
theorem x85_38 (d : Nat) (L st : List Value) (h : gd_H) : go gd_P0 d 85 38 L st h = gs gd_P0 d 85 38 L (i_aldI 31 39 L st h) := go_eq gd_P0 d 85 38 L st h
theorem x85_39 (d : Nat) (L st : List Value) (h : gd_H) : go gd_P0 d 85 39 L st h = gs gd_P0 d 85 39 L (i_psh (.int (-1)) 40 L st h) := go_eq gd_P0 d 85 39 L st h
theorem x85_40 (d : Nat) (L st : List Value) (h : gd_H) : go gd_P0 d 85 40 L st h = gs gd_P0 d 85 40 L (i_iceq 65 43 L st h) := go_eq gd_P0 d 85 40 L st h
theorem x85_43 (d : Nat) (L st : List Value) (h : gd_H) : go gd_P0 d 85 43 L st h = gs gd_P0 d 85 43 L (i_ald 2 44 L st h) := go_eq gd_P0 d 85 43 L st h
theorem x85_44 (d : Nat) (L st : List Value) (h : gd_H) : go gd_P0 d 85 44 L st h = gs gd_P0 d 85 44 L (i_ild 4 46 L st h) := go_eq gd_P0 d 85 44 L st h
theorem x85_46 (d : Nat) (L st : List Value) (h : gd_H) : go gd_P0 d 85 46 L st h = gs gd_P0 d 85 46 L (i_cV 155 1 4 49 L st h) := go_eq gd_P0 d 85 46 L st h
theorem x85_49 (d : Nat) (L st : List Value) (h : gd_H) : go gd_P0 d 85 49 L st h = gs gd_P0 d 85 49 L (i_msk [true, true, true, true, true] (i_cS 4 1 52) L st h) := go_eq gd_P0 d 85 49 L st h
theorem x85_52 (d : Nat) (L st : List Value) (h : gd_H) : go gd_P0 d 85 52 L st h = gs gd_P0 d 85 52 L (i_msk [true, true, true, true, true] (i_psh (.int 1) 53) L st h) := go_eq gd_P0 d 85 52 L st h
theorem x85_53 (d : Nat) (L st : List Value) (h : gd_H) : go gd_P0 d 85 53 L st h = gs gd_P0 d 85 53 L (i_ild 1 54 L st h) := go_eq gd_P0 d 85 53 L st h
theorem x85_54 (d : Nat) (L st : List Value) (h : gd_H) : go gd_P0 d 85 54 L st h = gs gd_P0 d 85 54 L (i_isub 55 L st h) := go_eq gd_P0 d 85 54 L st h
theorem x85_55 (d : Nat) (L st : List Value) (h : gd_H) : go gd_P0 d 85 55 L st h = gs gd_P0 d 85 55 L (i_icne 65 58 L st h) := go_eq gd_P0 d 85 55 L st h
theorem x85_58 (d : Nat) (L st : List Value) (h : gd_H) : go gd_P0 d 85 58 L st h = gs gd_P0 d 85 58 L (i_ild 3 59 L st h) := go_eq gd_P0 d 85 58 L st h
theorem x85_59 (d : Nat) (L st : List Value) (h : gd_H) : go gd_P0 d 85 59 L st h = gs gd_P0 d 85 59 L (i_psh (.int 1) 60 L st h) := go_eq gd_P0 d 85 59 L st h
theorem x85_60 (d : Nat) (L st : List Value) (h : gd_H) : go gd_P0 d 85 60 L st h = gs gd_P0 d 85 60 L (i_ild 4 62 L st h) := go_eq gd_P0 d 85 60 L st h
theorem x85_62 (d : Nat) (L st : List Value) (h : gd_H) : go gd_P0 d 85 62 L st h = gs gd_P0 d 85 62 L (i_ishl 63 L st h) := go_eq gd_P0 d 85 62 L st h
theorem x85_63 (d : Nat) (L st : List Value) (h : gd_H) : go gd_P0 d 85 63 L st h = gs gd_P0 d 85 63 L (i_ior 64 L st h) := go_eq gd_P0 d 85 63 L st h
theorem x85_64 (d : Nat) (L st : List Value) (h : gd_H) : go gd_P0 d 85 64 L st h = gs gd_P0 d 85 64 L (i_ist 3 65 L st h) := go_eq gd_P0 d 85 64 L st h
theorem x85_65 (d : Nat) (L st : List Value) (h : gd_H) : go gd_P0 d 85 65 L st h = gs gd_P0 d 85 65 L (i_msk [true, true, true, true, true] (i_inc 4 1 68) L st h) := go_eq gd_P0 d 85 65 L st h
theorem x85_68 (d : Nat) (L st : List Value) (h : gd_H) : go gd_P0 d 85 68 L st h = gs gd_P0 d 85 68 L (i_goto 20 L st h) := go_eq gd_P0 d 85 68 L st h
theorem x85_71 (d : Nat) (L st : List Value) (h : gd_H) : go gd_P0 d 85 71 L st h = gs gd_P0 d 85 71 L (i_ild 3 72 L st h) := go_eq gd_P0 d 85 71 L st h
theorem x85_72 (d : Nat) (L st : List Value) (h : gd_H) : go gd_P0 d 85 72 L st h = gs gd_P0 d 85 72 L (i_iret L st h) := go_eq gd_P0 d 85 72 L st h
theorem s85_0 (d : Nat) (h : gd_H) (v0 : Nat) (v1 : Int32) : go gd_P0 d 85 0 [.ref v0, .int v1, .null, .null, .null] [] h =
    if gT h v0 = 1 then gc gd_P0 d 85 4 7 [.ref v0, .int v1, .null, .null, .null] [] (run gd_P0 d 53 [.ref v0, .int v1, .int 0, .int 2] h) else none :=
  (x85_0 ..).trans ((x85_1 ..).trans ((x85_2 ..).trans ((x85_3 ..).trans ((x85_4 ..).trans ((gs_if ..).trans ((ia9 (by simp)).trans (ic9 rfl rfl)))))))
theorem s85_7 (d : Nat) (h : gd_H) (v0 : Nat) (v1 : Int32) (w2 : Value) (w3 : Value) (w4 : Value) : go gd_P0 d 85 7 [.ref v0, .int v1, w2, w3, w4] [] h =
    if gT h v0 = 1 then if gT h (gR h v0 2) = 3 then gc gd_P0 d 85 11 14 [.ref v0, .int v1, .null, .null, .null] [] (run gd_P0 d 145 [.ref (gR h v0 2)] h) else none else none :=
  (x85_7 ..).trans ((x85_8 ..).trans ((gs_if ..).trans (ic9 ((x85_11 ..).trans ((gs_if ..).trans ((ia9 (by simp)).trans (ic9 rfl rfl)))) rfl)))
theorem s85_14 (d : Nat) (h : gd_H) (v0 : Nat) (v1 : Int32) (w2 : Value) (w3 : Value) (w4 : Value) (z0 : Nat) : go gd_P0 d 85 14 [.ref v0, .int v1, w2, w3, w4] [.ref z0] h =
    go gd_P0 d 85 20 [.ref v0, .int v1, .ref z0, .int 0, .int 0] [] h :=
  (x85_14 ..).trans ((x85_15 ..).trans ((x85_16 ..).trans ((x85_17 ..).trans ((x85_18 ..)))))
theorem s85_20 (d : Nat) (h : gd_H) (v0 : Nat) (v1 : Int32) (v2 : Nat) (v3 : Int32) (v4 : Int32) : go gd_P0 d 85 20 [.ref v0, .int v1, .ref v2, .int v3, .int v4] [] h =
    if gT h v0 = 1 then if gT h (gR h v0 15) = 6 then if (gI h (gR h v0 15) 7) ≤ v4 then some (.inl (some (.int v3)), h) else if gT h v2 = 4 then if gT h (gR h v2 3) = 31 ∧ ¬ (v4 < 0 ∨ gL h (gR h v2 3) ≤ Int32.toNatClampNeg v4) then if (gI h (gR h v2 3) (Int32.toNatClampNeg v4)) = (-1) then go gd_P0 d 85 65 [.ref v0, .int v1, .ref v2, .int v3, .int v4] [] h else if gT h v2 = 4 then gc gd_P0 d 85 46 49 [.ref v0, .int v1, .ref v2, .int v3, .int v4] [] (run gd_P0 d 155 [.ref v2, .int v4] h) else none else none else none else none else none :=
  (x85_20 ..).trans ((x85_22 ..).trans ((x85_23 ..).trans ((gs_if ..).trans (ic9 ((x85_26 ..).trans ((gs_if ..).trans (ic9 ((x85_29 ..).trans ((gs_if ..).trans (ic9 ((x85_71 ..).trans ((x85_72 ..))) ((x85_32 ..).trans ((x85_33 ..).trans ((gs_if ..).trans (ic9 ((x85_36 ..).trans ((x85_38 ..).trans ((gs_if ..).trans (ic9 ((x85_39 ..).trans ((x85_40 ..).trans ((gs_if ..).trans (ic9 (rfl) ((x85_43 ..).trans ((x85_44 ..).trans ((x85_46 ..).trans ((gs_if ..).trans ((ia9 (by simp)).trans (ic9 rfl rfl)))))))))) rfl)))) rfl))))))) rfl))) rfl))))
theorem s85_49 (d : Nat) (h : gd_H) (v0 : Nat) (v1 : Int32) (v2 : Nat) (v3 : Int32) (v4 : Int32) (z0 : Int32) : go gd_P0 d 85 49 [.ref v0, .int v1, .ref v2, .int v3, .int v4] [.int z0] h =
    gc gd_P0 d 85 49 52 [.ref v0, .int v1, .ref v2, .int v3, .int v4] [] (run gd_P0 d 4 [.int z0] h) :=
  (x85_49 ..)
theorem s85_52 (d : Nat) (h : gd_H) (v0 : Nat) (v1 : Int32) (v2 : Nat) (v3 : Int32) (v4 : Int32) (z0 : Int32) : go gd_P0 d 85 52 [.ref v0, .int v1, .ref v2, .int v3, .int v4] [.int z0] h =
    if z0 = (1 - v1) then go gd_P0 d 85 65 [.ref v0, .int v1, .ref v2, .int (v3 ||| ((1 : Int32) <<< (v4 &&& 31))), .int v4] [] h else go gd_P0 d 85 65 [.ref v0, .int v1, .ref v2, .int v3, .int v4] [] h :=
  (x85_52 ..).trans ((x85_53 ..).trans ((x85_54 ..).trans ((x85_55 ..).trans ((gs_if ..).trans (ic9 ((x85_58 ..).trans ((x85_59 ..).trans ((x85_60 ..).trans ((x85_62 ..).trans ((x85_63 ..).trans ((x85_64 ..))))))) (rfl))))))
theorem s85_65 (d : Nat) (h : gd_H) (v0 : Nat) (v1 : Int32) (v2 : Nat) (v3 : Int32) (v4 : Int32) : go gd_P0 d 85 65 [.ref v0, .int v1, .ref v2, .int v3, .int v4] [] h =
    go gd_P0 d 85 20 [.ref v0, .int v1, .ref v2, .int v3, .int (v4 + 1)] [] h :=
  (x85_65 ..).trans ((x85_68 ..))
theorem r85 (d : Nat) (h : gd_H) (v0 : Nat) (v1 : Int32) : run gd_P0 (d + 1) 85 [.ref v0, .int v1] h = go gd_P0 d 85 0 [.ref v0, .int v1, .null, .null, .null] [] h := run_succ gd_P0 d 85 [.ref v0, .int v1] h (Nat.le_of_ble_eq_true rfl)
theorem x86_0 (d : Nat) (L st : List Value) (h : gd_H) : go gd_P0 d 86 0 L st h = gs gd_P0 d 86 0 L (i_ald 0 1 L st h) := go_eq gd_P0 d 86 0 L st h
theorem x86_1 (d : Nat) (L st : List Value) (h : gd_H) : go gd_P0 d 86 1 L st h = gs gd_P0 d 86 1 L (i_ild 1 2 L st h) := go_eq gd_P0 d 86 1 L st h
theorem x86_2 (d : Nat) (L st : List Value) (h : gd_H) : go gd_P0 d 86 2 L st h = gs gd_P0 d 86 2 L (i_psh (.int 0) 3 L st h) := go_eq gd_P0 d 86 2 L st h
theorem x86_3 (d : Nat) (L st : List Value) (h : gd_H) : go gd_P0 d 86 3 L st h = gs gd_P0 d 86 3 L (i_psh (.int 5994) 6 L st h) := go_eq gd_P0 d 86 3 L st h
theorem x86_6 (d : Nat) (L st : List Value) (h : gd_H) : go gd_P0 d 86 6 L st h = gs gd_P0 d 86 6 L (i_cV 53 3 1 9 L st h) := go_eq gd_P0 d 86 6 L st h
theorem x86_9 (d : Nat) (L st : List Value) (h : gd_H) : go gd_P0 d 86 9 L st h = gs gd_P0 d 86 9 L (i_msk [true, true] (i_ald 0 10) L st h) := go_eq gd_P0 d 86 9 L st h
theorem x86_10 (d : Nat) (L st : List Value) (h : gd_H) : go gd_P0 d 86 10 L st h = gs gd_P0 d 86 10 L (i_getR 1 2 13 L st h) := go_eq gd_P0 d 86 10 L st h
theorem x86_13 (d : Nat) (L st : List Value) (h : gd_H) : go gd_P0 d 86 13 L st h = gs gd_P0 d 86 13 L (i_cV 145 0 3 16 L st h) := go_eq gd_P0 d 86 13 L st h
theorem x86_16 (d : Nat) (L st : List Value) (h : gd_H) : go gd_P0 d 86 16 L st h = gs gd_P0 d 86 16 L (i_msk [false, true] (i_ild 1 17) L st h) := go_eq gd_P0 d 86 16 L st h
theorem x86_17 (d : Nat) (L st : List Value) (h : gd_H) : go gd_P0 d 86 17 L st h = gs gd_P0 d 86 17 L (i_cV 162 1 4 20 L st h) := go_eq gd_P0 d 86 17 L st h
theorem x86_20 (d : Nat) (L st : List Value) (h : gd_H) : go gd_P0 d 86 20 L st h = gs gd_P0 d 86 20 L (i_msk [false, false] (i_iret) L st h) := go_eq gd_P0 d 86 20 L st h
theorem s86_0 (d : Nat) (h : gd_H) (v0 : Nat) (v1 : Int32) : go gd_P0 d 86 0 [.ref v0, .int v1] [] h =
    if gT h v0 = 1 then gc gd_P0 d 86 6 9 [.ref v0, .int v1] [] (run gd_P0 d 53 [.ref v0, .int v1, .int 0, .int 5994] h) else none :=
  (x86_0 ..).trans ((x86_1 ..).trans ((x86_2 ..).trans ((x86_3 ..).trans ((x86_6 ..).trans ((gs_if ..).trans ((ia9 (by simp)).trans (ic9 rfl rfl)))))))
theorem s86_9 (d : Nat) (h : gd_H) (v0 : Nat) (v1 : Int32) : go gd_P0 d 86 9 [.ref v0, .int v1] [] h =
    if gT h v0 = 1 then if gT h (gR h v0 2) = 3 then gc gd_P0 d 86 13 16 [.ref v0, .int v1] [] (run gd_P0 d 145 [.ref (gR h v0 2)] h) else none else none :=
  (x86_9 ..).trans ((x86_10 ..).trans ((gs_if ..).trans (ic9 ((x86_13 ..).trans ((gs_if ..).trans ((ia9 (by simp)).trans (ic9 rfl rfl)))) rfl)))
theorem s86_16 (d : Nat) (h : gd_H) (w0 : Value) (v1 : Int32) (z0 : Nat) : go gd_P0 d 86 16 [w0, .int v1] [.ref z0] h =
    if gT h z0 = 4 then gc gd_P0 d 86 17 20 [.null, .int v1] [] (run gd_P0 d 162 [.ref z0, .int v1] h) else none :=
  (x86_16 ..).trans ((x86_17 ..).trans ((gs_if ..).trans ((ia9 (by simp)).trans (ic9 rfl rfl))))
theorem s86_20 (d : Nat) (h : gd_H) (w0 : Value) (w1 : Value) (z0 : Int32) : go gd_P0 d 86 20 [w0, w1] [.int z0] h =
    some (.inl (some (.int z0)), h) :=
  (x86_20 ..)
theorem r86 (d : Nat) (h : gd_H) (v0 : Nat) (v1 : Int32) : run gd_P0 (d + 1) 86 [.ref v0, .int v1] h = go gd_P0 d 86 0 [.ref v0, .int v1] [] h := run_succ gd_P0 d 86 [.ref v0, .int v1] h (Nat.le_of_ble_eq_true rfl)
theorem x87_0 (d : Nat) (L st : List Value) (h : gd_H) : go gd_P0 d 87 0 L st h = gs gd_P0 d 87 0 L (i_ald 0 1 L st h) := go_eq gd_P0 d 87 0 L st h
theorem x87_1 (d : Nat) (L st : List Value) (h : gd_H) : go gd_P0 d 87 1 L st h = gs gd_P0 d 87 1 L (i_ild 1 2 L st h) := go_eq gd_P0 d 87 1 L st h
theorem x87_2 (d : Nat) (L st : List Value) (h : gd_H) : go gd_P0 d 87 2 L st h = gs gd_P0 d 87 2 L (i_cV 61 1 1 5 L st h) := go_eq gd_P0 d 87 2 L st h
theorem x87_5 (d : Nat) (L st : List Value) (h : gd_H) : go gd_P0 d 87 5 L st h = gs gd_P0 d 87 5 L (i_msk [true, true] (i_ald 0 6) L st h) := go_eq gd_P0 d 87 5 L st h
theorem x87_6 (d : Nat) (L st : List Value) (h : gd_H) : go gd_P0 d 87 6 L st h = gs gd_P0 d 87 6 L (i_getR 1 2 9 L st h) := go_eq gd_P0 d 87 6 L st h
theorem x87_9 (d : Nat) (L st : List Value) (h : gd_H) : go gd_P0 d 87 9 L st h = gs gd_P0 d 87 9 L (i_cV 145 0 3 12 L st h) := go_eq gd_P0 d 87 9 L st h
theorem x87_12 (d : Nat) (L st : List Value) (h : gd_H) : go gd_P0 d 87 12 L st h = gs gd_P0 d 87 12 L (i_msk [false, true] (i_ild 1 13) L st h) := go_eq gd_P0 d 87 12 L st h
theorem x87_13 (d : Nat) (L st : List Value) (h : gd_H) : go gd_P0 d 87 13 L st h = gs gd_P0 d 87 13 L (i_cV 159 1 4 16 L st h) := go_eq gd_P0 d 87 13 L st h
theorem x87_16 (d : Nat) (L st : List Value) (h : gd_H) : go gd_P0 d 87 16 L st h = gs gd_P0 d 87 16 L (i_msk [false, false] (i_iret) L st h) := go_eq gd_P0 d 87 16 L st h
theorem s87_0 (d : Nat) (h : gd_H) (v0 : Nat) (v1 : Int32) : go gd_P0 d 87 0 [.ref v0, .int v1] [] h =
    if gT h v0 = 1 then gc gd_P0 d 87 2 5 [.ref v0, .int v1] [] (run gd_P0 d 61 [.ref v0, .int v1] h) else none :=
  (x87_0 ..).trans ((x87_1 ..).trans ((x87_2 ..).trans ((gs_if ..).trans ((ia9 (by simp)).trans (ic9 rfl rfl)))))
theorem s87_5 (d : Nat) (h : gd_H) (v0 : Nat) (v1 : Int32) : go gd_P0 d 87 5 [.ref v0, .int v1] [] h =
    if gT h v0 = 1 then if gT h (gR h v0 2) = 3 then gc gd_P0 d 87 9 12 [.ref v0, .int v1] [] (run gd_P0 d 145 [.ref (gR h v0 2)] h) else none else none :=
  (x87_5 ..).trans ((x87_6 ..).trans ((gs_if ..).trans (ic9 ((x87_9 ..).trans ((gs_if ..).trans ((ia9 (by simp)).trans (ic9 rfl rfl)))) rfl)))
theorem s87_12 (d : Nat) (h : gd_H) (w0 : Value) (v1 : Int32) (z0 : Nat) : go gd_P0 d 87 12 [w0, .int v1] [.ref z0] h =
    if gT h z0 = 4 then gc gd_P0 d 87 13 16 [.null, .int v1] [] (run gd_P0 d 159 [.ref z0, .int v1] h) else none :=
  (x87_12 ..).trans ((x87_13 ..).trans ((gs_if ..).trans ((ia9 (by simp)).trans (ic9 rfl rfl))))
theorem s87_16 (d : Nat) (h : gd_H) (w0 : Value) (w1 : Value) (z0 : Int32) : go gd_P0 d 87 16 [w0, w1] [.int z0] h =
    some (.inl (some (.int z0)), h) :=
  (x87_16 ..)
theorem r87 (d : Nat) (h : gd_H) (v0 : Nat) (v1 : Int32) : run gd_P0 (d + 1) 87 [.ref v0, .int v1] h = go gd_P0 d 87 0 [.ref v0, .int v1] [] h := run_succ gd_P0 d 87 [.ref v0, .int v1] h (Nat.le_of_ble_eq_true rfl)
theorem x88_0 (d : Nat) (L st : List Value) (h : gd_H) : go gd_P0 d 88 0 L st h = gs gd_P0 d 88 0 L (i_ald 0 1 L st h) := go_eq gd_P0 d 88 0 L st h
theorem x88_1 (d : Nat) (L st : List Value) (h : gd_H) : go gd_P0 d 88 1 L st h = gs gd_P0 d 88 1 L (i_ild 1 2 L st h) := go_eq gd_P0 d 88 1 L st h
theorem x88_2 (d : Nat) (L st : List Value) (h : gd_H) : go gd_P0 d 88 2 L st h = gs gd_P0 d 88 2 L (i_cV 64 1 1 5 L st h) := go_eq gd_P0 d 88 2 L st h
theorem x88_5 (d : Nat) (L st : List Value) (h : gd_H) : go gd_P0 d 88 5 L st h = gs gd_P0 d 88 5 L (i_msk [true, true, false] (i_ald 0 6) L st h) := go_eq gd_P0 d 88 5 L st h
theorem x88_6 (d : Nat) (L st : List Value) (h : gd_H) : go gd_P0 d 88 6 L st h = gs gd_P0 d 88 6 L (i_cV 68 0 1 9 L st h) := go_eq gd_P0 d 88 6 L st h
theorem x88_9 (d : Nat) (L st : List Value) (h : gd_H) : go gd_P0 d 88 9 L st h = gs gd_P0 d 88 9 L (i_msk [true, true, false] (i_pop 10) L st h) := go_eq gd_P0 d 88 9 L st h
theorem x88_10 (d : Nat) (L st : List Value) (h : gd_H) : go gd_P0 d 88 10 L st h = gs gd_P0 d 88 10 L (i_psh (.int 0) 11 L st h) := go_eq gd_P0 d 88 10 L st h
theorem x88_11 (d : Nat) (L st : List Value) (h : gd_H) : go gd_P0 d 88 11 L st h = gs gd_P0 d 88 11 L (i_ist 2 12 L st h) := go_eq gd_P0 d 88 11 L st h
theorem x88_12 (d : Nat) (L st : List Value) (h : gd_H) : go gd_P0 d 88 12 L st h = gs gd_P0 d 88 12 L (i_msk [true, true, true] (i_ild 2 13) L st h) := go_eq gd_P0 d 88 12 L st h
theorem x88_13 (d : Nat) (L st : List Value) (h : gd_H) : go gd_P0 d 88 13 L st h = gs gd_P0 d 88 13 L (i_psh (.int 99) 15 L st h) := go_eq gd_P0 d 88 13 L st h
theorem x88_15 (d : Nat) (L st : List Value) (h : gd_H) : go gd_P0 d 88 15 L st h = gs gd_P0 d 88 15 L (i_icgt 44 18 L st h) := go_eq gd_P0 d 88 15 L st h
theorem x88_18 (d : Nat) (L st : List Value) (h : gd_H) : go gd_P0 d 88 18 L st h = gs gd_P0 d 88 18 L (i_ald 0 19 L st h) := go_eq gd_P0 d 88 18 L st h
theorem x88_19 (d : Nat) (L st : List Value) (h : gd_H) : go gd_P0 d 88 19 L st h = gs gd_P0 d 88 19 L (i_getR 1 4 22 L st h) := go_eq gd_P0 d 88 19 L st h
theorem x88_22 (d : Nat) (L st : List Value) (h : gd_H) : go gd_P0 d 88 22 L st h = gs gd_P0 d 88 22 L (i_ild 1 23 L st h) := go_eq gd_P0 d 88 22 L st h
theorem x88_23 (d : Nat) (L st : List Value) (h : gd_H) : go gd_P0 d 88 23 L st h = gs gd_P0 d 88 23 L (i_cV 155 1 4 26 L st h) := go_eq gd_P0 d 88 23 L st h
theorem x88_26 (d : Nat) (L st : List Value) (h : gd_H) : go gd_P0 d 88 26 L st h = gs gd_P0 d 88 26 L (i_msk [true, true, true] (i_ifge 31 29) L st h) := go_eq gd_P0 d 88 26 L st h
theorem x88_29 (d : Nat) (L st : List Value) (h : gd_H) : go gd_P0 d 88 29 L st h = gs gd_P0 d 88 29 L (i_ild 2 30 L st h) := go_eq gd_P0 d 88 29 L st h
theorem x88_30 (d : Nat) (L st : List Value) (h : gd_H) : go gd_P0 d 88 30 L st h = gs gd_P0 d 88 30 L (i_iret L st h) := go_eq gd_P0 d 88 30 L st h
theorem x88_31 (d : Nat) (L st : List Value) (h : gd_H) : go gd_P0 d 88 31 L st h = gs gd_P0 d 88 31 L (i_ald 0 32 L st h) := go_eq gd_P0 d 88 31 L st h
theorem x88_32 (d : Nat) (L st : List Value) (h : gd_H) : go gd_P0 d 88 32 L st h = gs gd_P0 d 88 32 L (i_getR 1 4 35 L st h) := go_eq gd_P0 d 88 32 L st h
theorem x88_35 (d : Nat) (L st : List Value) (h : gd_H) : go gd_P0 d 88 35 L st h = gs gd_P0 d 88 35 L (i_cV 152 0 4 38 L st h) := go_eq gd_P0 d 88 35 L st h
theorem x88_38 (d : Nat) (L st : List Value) (h : gd_H) : go gd_P0 d 88 38 L st h = gs gd_P0 d 88 38 L (i_msk [true, true, true] (i_inc 2 1 41) L st h) := go_eq gd_P0 d 88 38 L st h
theorem x88_41 (d : Nat) (L st : List Value) (h : gd_H) : go gd_P0 d 88 41 L st h = gs gd_P0 d 88 41 L (i_goto 12 L st h) := go_eq gd_P0 d 88 41 L st h
theorem x88_44 (d : Nat) (L st : List Value) (h : gd_H) : go gd_P0 d 88 44 L st h = gs gd_P0 d 88 44 L (i_psh (.int (-1)) 45 L st h) := go_eq gd_P0 d 88 44 L st h
theorem x88_45 (d : Nat) (L st : List Value) (h : gd_H) : go gd_P0 d 88 45 L st h = gs gd_P0 d 88 45 L (i_iret L st h) := go_eq gd_P0 d 88 45 L st h
theorem s88_0 (d : Nat) (h : gd_H) (v0 : Nat) (v1 : Int32) : go gd_P0 d 88 0 [.ref v0, .int v1, .null] [] h =
    if gT h v0 = 1 then gc gd_P0 d 88 2 5 [.ref v0, .int v1, .null] [] (run gd_P0 d 64 [.ref v0, .int v1] h) else none :=
  (x88_0 ..).trans ((x88_1 ..).trans ((x88_2 ..).trans ((gs_if ..).trans ((ia9 (by simp)).trans (ic9 rfl rfl)))))
theorem s88_5 (d : Nat) (h : gd_H) (v0 : Nat) (v1 : Int32) (w2 : Value) : go gd_P0 d 88 5 [.ref v0, .int v1, w2] [] h =
    if gT h v0 = 1 then gc gd_P0 d 88 6 9 [.ref v0, .int v1, .null] [] (run gd_P0 d 68 [.ref v0] h) else none :=
  (x88_5 ..).trans ((x88_6 ..).trans ((gs_if ..).trans ((ia9 (by simp)).trans (ic9 rfl rfl))))
theorem s88_9 (d : Nat) (h : gd_H) (v0 : Nat) (v1 : Int32) (w2 : Value) (z0 : Nat) : go gd_P0 d 88 9 [.ref v0, .int v1, w2] [.ref z0] h =
    go gd_P0 d 88 12 [.ref v0, .int v1, .int 0] [] h :=
  (x88_9 ..).trans ((x88_10 ..).trans ((x88_11 ..)))
theorem s88_12 (d : Nat) (h : gd_H) (v0 : Nat) (v1 : Int32) (v2 : Int32) : go gd_P0 d 88 12 [.ref v0, .int v1, .int v2] [] h =
    if 99 < v2 then some (.inl (some (.int (-1))), h) else if gT h v0 = 1 then if gT h (gR h v0 4) = 4 then gc gd_P0 d 88 23 26 [.ref v0, .int v1, .int v2] [] (run gd_P0 d 155 [.ref (gR h v0 4), .int v1] h) else none else none :=
  (x88_12 ..).trans ((x88_13 ..).trans ((x88_15 ..).trans ((gs_if ..).trans (ic9 ((x88_44 ..).trans ((x88_45 ..))) ((x88_18 ..).trans ((x88_19 ..).trans ((gs_if ..).trans (ic9 ((x88_22 ..).trans ((x88_23 ..).trans ((gs_if ..).trans ((ia9 (by simp)).trans (ic9 rfl rfl))))) rfl))))))))
theorem s88_26 (d : Nat) (h : gd_H) (v0 : Nat) (v1 : Int32) (v2 : Int32) (z0 : Int32) : go gd_P0 d 88 26 [.ref v0, .int v1, .int v2] [.int z0] h =
    if 0 ≤ z0 then if gT h v0 = 1 then if gT h (gR h v0 4) = 4 then gc gd_P0 d 88 35 38 [.ref v0, .int v1, .int v2] [] (run gd_P0 d 152 [.ref (gR h v0 4)] h) else none else none else some (.inl (some (.int v2)), h) :=
  (x88_26 ..).trans ((gs_nif ..).trans (ic9 ((x88_31 ..).trans ((x88_32 ..).trans ((gs_if ..).trans (ic9 ((x88_35 ..).trans ((gs_if ..).trans ((ia9 (by simp)).trans (ic9 rfl rfl)))) rfl)))) ((x88_29 ..).trans ((x88_30 ..)))))
theorem s88_38 (d : Nat) (h : gd_H) (v0 : Nat) (v1 : Int32) (v2 : Int32) : go gd_P0 d 88 38 [.ref v0, .int v1, .int v2] [] h =
    go gd_P0 d 88 12 [.ref v0, .int v1, .int (v2 + 1)] [] h :=
  (x88_38 ..).trans ((x88_41 ..))
theorem r88 (d : Nat) (h : gd_H) (v0 : Nat) (v1 : Int32) : run gd_P0 (d + 1) 88 [.ref v0, .int v1] h = go gd_P0 d 88 0 [.ref v0, .int v1, .null] [] h := run_succ gd_P0 d 88 [.ref v0, .int v1] h (Nat.le_of_ble_eq_true rfl)
theorem x89_0 (d : Nat) (L st : List Value) (h : gd_H) : go gd_P0 d 89 0 L st h = gs gd_P0 d 89 0 L (i_ald 0 1 L st h) := go_eq gd_P0 d 89 0 L st h
theorem x89_1 (d : Nat) (L st : List Value) (h : gd_H) : go gd_P0 d 89 1 L st h = gs gd_P0 d 89 1 L (i_ild 1 2 L st h) := go_eq gd_P0 d 89 1 L st h
theorem x89_2 (d : Nat) (L st : List Value) (h : gd_H) : go gd_P0 d 89 2 L st h = gs gd_P0 d 89 2 L (i_psh (.int 0) 3 L st h) := go_eq gd_P0 d 89 2 L st h
theorem x89_3 (d : Nat) (L st : List Value) (h : gd_H) : go gd_P0 d 89 3 L st h = gs gd_P0 d 89 3 L (i_psh (.int 1) 4 L st h) := go_eq gd_P0 d 89 3 L st h
theorem x89_4 (d : Nat) (L st : List Value) (h : gd_H) : go gd_P0 d 89 4 L st h = gs gd_P0 d 89 4 L (i_cV 53 3 1 7 L st h) := go_eq gd_P0 d 89 4 L st h
theorem x89_7 (d : Nat) (L st : List Value) (h : gd_H) : go gd_P0 d 89 7 L st h = gs gd_P0 d 89 7 L (i_msk [true, true, false, false, false, false] (i_psh (.int 0) 8) L st h) := go_eq gd_P0 d 89 7 L st h
theorem x89_8 (d : Nat) (L st : List Value) (h : gd_H) : go gd_P0 d 89 8 L st h = gs gd_P0 d 89 8 L (i_ist 2 9 L st h) := go_eq gd_P0 d 89 8 L st h
theorem x89_9 (d : Nat) (L st : List Value) (h : gd_H) : go gd_P0 d 89 9 L st h = gs gd_P0 d 89 9 L (i_psh (.int 0) 10 L st h) := go_eq gd_P0 d 89 9 L st h
theorem x89_10 (d : Nat) (L st : List Value) (h : gd_H) : go gd_P0 d 89 10 L st h = gs gd_P0 d 89 10 L (i_ist 3 11 L st h) := go_eq gd_P0 d 89 10 L st h
theorem x89_11 (d : Nat) (L st : List Value) (h : gd_H) : go gd_P0 d 89 11 L st h = gs gd_P0 d 89 11 L (i_msk [true, true, true, true, false, false] (i_ild 3 12) L st h) := go_eq gd_P0 d 89 11 L st h
theorem x89_12 (d : Nat) (L st : List Value) (h : gd_H) : go gd_P0 d 89 12 L st h = gs gd_P0 d 89 12 L (i_ald 0 13 L st h) := go_eq gd_P0 d 89 12 L st h
theorem x89_13 (d : Nat) (L st : List Value) (h : gd_H) : go gd_P0 d 89 13 L st h = gs gd_P0 d 89 13 L (i_getR 1 15 16 L st h) := go_eq gd_P0 d 89 13 L st h
theorem x89_16 (d : Nat) (L st : List Value) (h : gd_H) : go gd_P0 d 89 16 L st h = gs gd_P0 d 89 16 L (i_getI 6 7 19 L st h) := go_eq gd_P0 d 89 16 L st h
theorem x89_19 (d : Nat) (L st : List Value) (h : gd_H) : go gd_P0 d 89 19 L st h = gs gd_P0 d 89 19 L (i_icge 143 22 L st h) := go_eq gd_P0 d 89 19 L st h
theorem x89_22 (d : Nat) (L st : List Value) (h : gd_H) : go gd_P0 d 89 22 L st h = gs gd_P0 d 89 22 L (i_psh (.int 0) 23 L st h) := go_eq gd_P0 d 89 22 L st h
theorem x89_23 (d : Nat) (L st : List Value) (h : gd_H) : go gd_P0 d 89 23 L st h = gs gd_P0 d 89 23 L (i_ist 4 25 L st h) := go_eq gd_P0 d 89 23 L st h
theorem x89_25 (d : Nat) (L st : List Value) (h : gd_H) : go gd_P0 d 89 25 L st h = gs gd_P0 d 89 25 L (i_psh (.int 0) 26 L st h) := go_eq gd_P0 d 89 25 L st h
theorem x89_26 (d : Nat) (L st : List Value) (h : gd_H) : go gd_P0 d 89 26 L st h = gs gd_P0 d 89 26 L (i_ist 5 28 L st h) := go_eq gd_P0 d 89 26 L st h
theorem x89_28 (d : Nat) (L st : List Value) (h : gd_H) : go gd_P0 d 89 28 L st h = gs gd_P0 d 89 28 L (i_msk [true, true, true, true, true, true] (i_ild 5 30) L st h) := go_eq gd_P0 d 89 28 L st h
theorem x89_30 (d : Nat) (L st : List Value) (h : gd_H) : go gd_P0 d 89 30 L st h = gs gd_P0 d 89 30 L (i_ald 0 31 L st h) := go_eq gd_P0 d 89 30 L st h
theorem x89_31 (d : Nat) (L st : List Value) (h : gd_H) : go gd_P0 d 89 31 L st h = gs gd_P0 d 89 31 L (i_getR 1 15 34 L st h) := go_eq gd_P0 d 89 31 L st h
theorem x89_34 (d : Nat) (L st : List Value) (h : gd_H) : go gd_P0 d 89 34 L st h = gs gd_P0 d 89 34 L (i_getI 6 7 37 L st h) := go_eq gd_P0 d 89 34 L st h
theorem x89_37 (d : Nat) (L st : List Value) (h : gd_H) : go gd_P0 d 89 37 L st h = gs gd_P0 d 89 37 L (i_icge 95 40 L st h) := go_eq gd_P0 d 89 37 L st h
theorem x89_40 (d : Nat) (L st : List Value) (h : gd_H) : go gd_P0 d 89 40 L st h = gs gd_P0 d 89 40 L (i_ald 0 41 L st h) := go_eq gd_P0 d 89 40 L st h
theorem x89_41 (d : Nat) (L st : List Value) (h : gd_H) : go gd_P0 d 89 41 L st h = gs gd_P0 d 89 41 L (i_getR 1 15 44 L st h) := go_eq gd_P0 d 89 41 L st h
theorem x89_44 (d : Nat) (L st : List Value) (h : gd_H) : go gd_P0 d 89 44 L st h = gs gd_P0 d 89 44 L (i_getR 6 4 47 L st h) := go_eq gd_P0 d 89 44 L st h
theorem x89_47 (d : Nat) (L st : List Value) (h : gd_H) : go gd_P0 d 89 47 L st h = gs gd_P0 d 89 47 L (i_ild 3 48 L st h) := go_eq gd_P0 d 89 47 L st h
theorem x89_48 (d : Nat) (L st : List Value) (h : gd_H) : go gd_P0 d 89 48 L st h = gs gd_P0 d 89 48 L (i_aldI 31 49 L st h) := go_eq gd_P0 d 89 48 L st h
theorem x89_49 (d : Nat) (L st : List Value) (h : gd_H) : go gd_P0 d 89 49 L st h = gs gd_P0 d 89 49 L (i_ild 5 51 L st h) := go_eq gd_P0 d 89 49 L st h
theorem x89_51 (d : Nat) (L st : List Value) (h : gd_H) : go gd_P0 d 89 51 L st h = gs gd_P0 d 89 51 L (i_ishr 52 L st h) := go_eq gd_P0 d 89 51 L st h
theorem x89_52 (d : Nat) (L st : List Value) (h : gd_H) : go gd_P0 d 89 52 L st h = gs gd_P0 d 89 52 L (i_psh (.int 1) 53 L st h) := go_eq gd_P0 d 89 52 L st h
theorem x89_53 (d : Nat) (L st : List Value) (h : gd_H) : go gd_P0 d 89 53 L st h = gs gd_P0 d 89 53 L (i_iand 54 L st h) := go_eq gd_P0 d 89 53 L st h
theorem x89_54 (d : Nat) (L st : List Value) (h : gd_H) : go gd_P0 d 89 54 L st h = gs gd_P0 d 89 54 L (i_psh (.int 1) 55 L st h) := go_eq gd_P0 d 89 54 L st h
theorem x89_55 (d : Nat) (L st : List Value) (h : gd_H) : go gd_P0 d 89 55 L st h = gs gd_P0 d 89 55 L (i_icne 89 58 L st h) := go_eq gd_P0 d 89 55 L st h
theorem x89_58 (d : Nat) (L st : List Value) (h : gd_H) : go gd_P0 d 89 58 L st h = gs gd_P0 d 89 58 L (i_ald 0 59 L st h) := go_eq gd_P0 d 89 58 L st h
theorem x89_59 (d : Nat) (L st : List Value) (h : gd_H) : go gd_P0 d 89 59 L st h = gs gd_P0 d 89 59 L (i_getR 1 2 62 L st h) := go_eq gd_P0 d 89 59 L st h
theorem x89_62 (d : Nat) (L st : List Value) (h : gd_H) : go gd_P0 d 89 62 L st h = gs gd_P0 d 89 62 L (i_cV 145 0 3 65 L st h) := go_eq gd_P0 d 89 62 L st h
theorem x89_65 (d : Nat) (L st : List Value) (h : gd_H) : go gd_P0 d 89 65 L st h = gs gd_P0 d 89 65 L (i_msk [true, true, true, true, true, true] (i_getR 4 1 68) L st h) := go_eq gd_P0 d 89 65 L st h
theorem x89_68 (d : Nat) (L st : List Value) (h : gd_H) : go gd_P0 d 89 68 L st h = gs gd_P0 d 89 68 L (i_ild 5 70 L st h) := go_eq gd_P0 d 89 68 L st h
theorem x89_70 (d : Nat) (L st : List Value) (h : gd_H) : go gd_P0 d 89 70 L st h = gs gd_P0 d 89 70 L (i_aldI 31 71 L st h) := go_eq gd_P0 d 89 70 L st h
theorem x89_71 (d : Nat) (L st : List Value) (h : gd_H) : go gd_P0 d 89 71 L st h = gs gd_P0 d 89 71 L (i_ald 0 72 L st h) := go_eq gd_P0 d 89 71 L st h
theorem x89_72 (d : Nat) (L st : List Value) (h : gd_H) : go gd_P0 d 89 72 L st h = gs gd_P0 d 89 72 L (i_getR 1 2 75 L st h) := go_eq gd_P0 d 89 72 L st h
theorem x89_75 (d : Nat) (L st : List Value) (h : gd_H) : go gd_P0 d 89 75 L st h = gs gd_P0 d 89 75 L (i_cV 145 0 3 78 L st h) := go_eq gd_P0 d 89 75 L st h
theorem x89_78 (d : Nat) (L st : List Value) (h : gd_H) : go gd_P0 d 89 78 L st h = gs gd_P0 d 89 78 L (i_msk [true, true, true, true, true, true] (i_getR 4 1 81) L st h) := go_eq gd_P0 d 89 78 L st h
theorem x89_81 (d : Nat) (L st : List Value) (h : gd_H) : go gd_P0 d 89 81 L st h = gs gd_P0 d 89 81 L (i_ild 3 82 L st h) := go_eq gd_P0 d 89 81 L st h
theorem x89_82 (d : Nat) (L st : List Value) (h : gd_H) : go gd_P0 d 89 82 L st h = gs gd_P0 d 89 82 L (i_aldI 31 83 L st h) := go_eq gd_P0 d 89 82 L st h
theorem x89_83 (d : Nat) (L st : List Value) (h : gd_H) : go gd_P0 d 89 83 L st h = gs gd_P0 d 89 83 L (i_icle 89 86 L st h) := go_eq gd_P0 d 89 83 L st h
theorem x89_86 (d : Nat) (L st : List Value) (h : gd_H) : go gd_P0 d 89 86 L st h = gs gd_P0 d 89 86 L (i_inc 4 1 89 L st h) := go_eq gd_P0 d 89 86 L st h
theorem x89_89 (d : Nat) (L st : List Value) (h : gd_H) : go gd_P0 d 89 89 L st h = gs gd_P0 d 89 89 L (i_msk [true, true, true, true, true, true] (i_inc 5 1 92) L st h) := go_eq gd_P0 d 89 89 L st h
theorem x89_92 (d : Nat) (L st : List Value) (h : gd_H) : go gd_P0 d 89 92 L st h = gs gd_P0 d 89 92 L (i_goto 28 L st h) := go_eq gd_P0 d 89 92 L st h
theorem x89_95 (d : Nat) (L st : List Value) (h : gd_H) : go gd_P0 d 89 95 L st h = gs gd_P0 d 89 95 L (i_ild 1 96 L st h) := go_eq gd_P0 d 89 95 L st h
theorem x89_96 (d : Nat) (L st : List Value) (h : gd_H) : go gd_P0 d 89 96 L st h = gs gd_P0 d 89 96 L (i_ifne 114 99 L st h) := go_eq gd_P0 d 89 96 L st h
theorem x89_99 (d : Nat) (L st : List Value) (h : gd_H) : go gd_P0 d 89 99 L st h = gs gd_P0 d 89 99 L (i_ald 0 100 L st h) := go_eq gd_P0 d 89 99 L st h
theorem x89_100 (d : Nat) (L st : List Value) (h : gd_H) : go gd_P0 d 89 100 L st h = gs gd_P0 d 89 100 L (i_getR 1 15 103 L st h) := go_eq gd_P0 d 89 100 L st h
theorem x89_103 (d : Nat) (L st : List Value) (h : gd_H) : go gd_P0 d 89 103 L st h = gs gd_P0 d 89 103 L (i_getR 6 4 106 L st h) := go_eq gd_P0 d 89 103 L st h
theorem x89_106 (d : Nat) (L st : List Value) (h : gd_H) : go gd_P0 d 89 106 L st h = gs gd_P0 d 89 106 L (i_ild 3 107 L st h) := go_eq gd_P0 d 89 106 L st h
theorem x89_107 (d : Nat) (L st : List Value) (h : gd_H) : go gd_P0 d 89 107 L st h = gs gd_P0 d 89 107 L (i_aldI 31 108 L st h) := go_eq gd_P0 d 89 107 L st h
theorem x89_108 (d : Nat) (L st : List Value) (h : gd_H) : go gd_P0 d 89 108 L st h = gs gd_P0 d 89 108 L (i_ifne 137 111 L st h) := go_eq gd_P0 d 89 108 L st h
theorem x89_111 (d : Nat) (L st : List Value) (h : gd_H) : go gd_P0 d 89 111 L st h = gs gd_P0 d 89 111 L (i_goto 131 L st h) := go_eq gd_P0 d 89 111 L st h
theorem x89_114 (d : Nat) (L st : List Value) (h : gd_H) : go gd_P0 d 89 114 L st h = gs gd_P0 d 89 114 L (i_ald 0 115 L st h) := go_eq gd_P0 d 89 114 L st h
theorem x89_115 (d : Nat) (L st : List Value) (h : gd_H) : go gd_P0 d 89 115 L st h = gs gd_P0 d 89 115 L (i_getR 1 15 118 L st h) := go_eq gd_P0 d 89 115 L st h
theorem x89_118 (d : Nat) (L st : List Value) (h : gd_H) : go gd_P0 d 89 118 L st h = gs gd_P0 d 89 118 L (i_getR 6 4 121 L st h) := go_eq gd_P0 d 89 118 L st h
theorem x89_121 (d : Nat) (L st : List Value) (h : gd_H) : go gd_P0 d 89 121 L st h = gs gd_P0 d 89 121 L (i_ild 3 122 L st h) := go_eq gd_P0 d 89 121 L st h
theorem x89_122 (d : Nat) (L st : List Value) (h : gd_H) : go gd_P0 d 89 122 L st h = gs gd_P0 d 89 122 L (i_aldI 31 123 L st h) := go_eq gd_P0 d 89 122 L st h
theorem x89_123 (d : Nat) (L st : List Value) (h : gd_H) : go gd_P0 d 89 123 L st h = gs gd_P0 d 89 123 L (i_ifeq 137 126 L st h) := go_eq gd_P0 d 89 123 L st h
theorem x89_126 (d : Nat) (L st : List Value) (h : gd_H) : go gd_P0 d 89 126 L st h = gs gd_P0 d 89 126 L (i_ild 4 128 L st h) := go_eq gd_P0 d 89 126 L st h
theorem x89_128 (d : Nat) (L st : List Value) (h : gd_H) : go gd_P0 d 89 128 L st h = gs gd_P0 d 89 128 L (i_ifne 137 131 L st h) := go_eq gd_P0 d 89 128 L st h
theorem x89_131 (d : Nat) (L st : List Value) (h : gd_H) : go gd_P0 d 89 131 L st h = gs gd_P0 d 89 131 L (i_msk [true, true, true, true, false, false] (i_ild 2 132) L st h) := go_eq gd_P0 d 89 131 L st h
theorem x89_132 (d : Nat) (L st : List Value) (h : gd_H) : go gd_P0 d 89 132 L st h = gs gd_P0 d 89 132 L (i_psh (.int 1) 133 L st h) := go_eq gd_P0 d 89 132 L st h
theorem x89_133 (d : Nat) (L st : List Value) (h : gd_H) : go gd_P0 d 89 133 L st h = gs gd_P0 d 89 133 L (i_ild 3 134 L st h) := go_eq gd_P0 d 89 133 L st h
theorem x89_134 (d : Nat) (L st : List Value) (h : gd_H) : go gd_P0 d 89 134 L st h = gs gd_P0 d 89 134 L (i_ishl 135 L st h) := go_eq gd_P0 d 89 134 L st h
theorem x89_135 (d : Nat) (L st : List Value) (h : gd_H) : go gd_P0 d 89 135 L st h = gs gd_P0 d 89 135 L (i_ior 136 L st h) := go_eq gd_P0 d 89 135 L st h
theorem x89_136 (d : Nat) (L st : List Value) (h : gd_H) : go gd_P0 d 89 136 L st h = gs gd_P0 d 89 136 L (i_ist 2 137 L st h) := go_eq gd_P0 d 89 136 L st h
theorem x89_137 (d : Nat) (L st : List Value) (h : gd_H) : go gd_P0 d 89 137 L st h = gs gd_P0 d 89 137 L (i_msk [true, true, true, true, false, false] (i_inc 3 1 140) L st h) := go_eq gd_P0 d 89 137 L st h
theorem x89_140 (d : Nat) (L st : List Value) (h : gd_H) : go gd_P0 d 89 140 L st h = gs gd_P0 d 89 140 L (i_goto 11 L st h) := go_eq gd_P0 d 89 140 L st h
theorem x89_143 (d : Nat) (L st : List Value) (h : gd_H) : go gd_P0 d 89 143 L st h = gs gd_P0 d 89 143 L (i_ild 2 144 L st h) := go_eq gd_P0 d 89 143 L st h
theorem x89_144 (d : Nat) (L st : List Value) (h : gd_H) : go gd_P0 d 89 144 L st h = gs gd_P0 d 89 144 L (i_iret L st h) := go_eq gd_P0 d 89 144 L st h
theorem s89_0 (d : Nat) (h : gd_H) (v0 : Nat) (v1 : Int32) : go gd_P0 d 89 0 [.ref v0, .int v1, .null, .null, .null, .null] [] h =
    if gT h v0 = 1 then gc gd_P0 d 89 4 7 [.ref v0, .int v1, .null, .null, .null, .null] [] (run gd_P0 d 53 [.ref v0, .int v1, .int 0, .int 1] h) else none :=
  (x89_0 ..).trans ((x89_1 ..).trans ((x89_2 ..).trans ((x89_3 ..).trans ((x89_4 ..).trans ((gs_if ..).trans ((ia9 (by simp)).trans (ic9 rfl rfl)))))))
theorem s89_7 (d : Nat) (h : gd_H) (v0 : Nat) (v1 : Int32) (w2 : Value) (w3 : Value) (w4 : Value) (w5 : Value) : go gd_P0 d 89 7 [.ref v0, .int v1, w2, w3, w4, w5] [] h =
    go gd_P0 d 89 11 [.ref v0, .int v1, .int 0, .int 0, .null, .null] [] h :=
  (x89_7 ..).trans ((x89_8 ..).trans ((x89_9 ..).trans ((x89_10 ..))))
theorem s89_11 (d : Nat) (h : gd_H) (v0 : Nat) (v1 : Int32) (v2 : Int32) (v3 : Int32) (w4 : Value) (w5 : Value) : go gd_P0 d 89 11 [.ref v0, .int v1, .int v2, .int v3, w4, w5] [] h =
    if gT h v0 = 1 then if gT h (gR h v0 15) = 6 then if (gI h (gR h v0 15) 7) ≤ v3 then some (.inl (some (.int v2)), h) else go gd_P0 d 89 28 [.ref v0, .int v1, .int v2, .int v3, .int 0, .int 0] [] h else none else none :=
  (x89_11 ..).trans ((x89_12 ..).trans ((x89_13 ..).trans ((gs_if ..).trans (ic9 ((x89_16 ..).trans ((gs_if ..).trans (ic9 ((x89_19 ..).trans ((gs_if ..).trans (ic9 ((x89_143 ..).trans ((x89_144 ..))) ((x89_22 ..).trans ((x89_23 ..).trans ((x89_25 ..).trans ((x89_26 ..)))))))) rfl))) rfl))))
theorem s89_28 (d : Nat) (h : gd_H) (v0 : Nat) (v1 : Int32) (v2 : Int32) (v3 : Int32) (v4 : Int32) (v5 : Int32) : go gd_P0 d 89 28 [.ref v0, .int v1, .int v2, .int v3, .int v4, .int v5] [] h =
    if gT h v0 = 1 then if gT h (gR h v0 15) = 6 then if (gI h (gR h v0 15) 7) ≤ v5 then if v1 = 0 then if gT h v0 = 1 then if gT h (gR h v0 15) = 6 then if gT h (gR h (gR h v0 15) 4) = 31 ∧ ¬ (v3 < 0 ∨ gL h (gR h (gR h v0 15) 4) ≤ Int32.toNatClampNeg v3) then if (gI h (gR h (gR h v0 15) 4) (Int32.toNatClampNeg v3)) = 0 then go gd_P0 d 89 131 [.ref v0, .int v1, .int v2, .int v3, .int v4, .int v5] [] h else go gd_P0 d 89 137 [.ref v0, .int v1, .int v2, .int v3, .int v4, .int v5] [] h else none else none else none else if gT h v0 = 1 then if gT h (gR h v0 15) = 6 then if gT h (gR h (gR h v0 15) 4) = 31 ∧ ¬ (v3 < 0 ∨ gL h (gR h (gR h v0 15) 4) ≤ Int32.toNatClampNeg v3) then if (gI h (gR h (gR h v0 15) 4) (Int32.toNatClampNeg v3)) = 0 then go gd_P0 d 89 137 [.ref v0, .int v1, .int v2, .int v3, .int v4, .int v5] [] h else if v4 = 0 then go gd_P0 d 89 131 [.ref v0, .int v1, .int v2, .int v3, .int v4, .int v5] [] h else go gd_P0 d 89 137 [.ref v0, .int v1, .int v2, .int v3, .int v4, .int v5] [] h else none else none else none else if gT h v0 = 1 then if gT h (gR h v0 15) = 6 then if gT h (gR h (gR h v0 15) 4) = 31 ∧ ¬ (v3 < 0 ∨ gL h (gR h (gR h v0 15) 4) ≤ Int32.toNatClampNeg v3) then if (((gI h (gR h (gR h v0 15) 4) (Int32.toNatClampNeg v3)) >>> (v5 &&& 31)) &&& (1 : Int32)) = 1 then if gT h v0 = 1 then if gT h (gR h v0 2) = 3 then gc gd_P0 d 89 62 65 [.ref v0, .int v1, .int v2, .int v3, .int v4, .int v5] [] (run gd_P0 d 145 [.ref (gR h v0 2)] h) else none else none else go gd_P0 d 89 89 [.ref v0, .int v1, .int v2, .int v3, .int v4, .int v5] [] h else none else none else none else none else none :=
  (x89_28 ..).trans ((x89_30 ..).trans ((x89_31 ..).trans ((gs_if ..).trans (ic9 ((x89_34 ..).trans ((gs_if ..).trans (ic9 ((x89_37 ..).trans ((gs_if ..).trans (ic9 ((x89_95 ..).trans ((x89_96 ..).trans ((gs_if ..).trans (ic9 ((x89_99 ..).trans ((x89_100 ..).trans ((gs_if ..).trans (ic9 ((x89_103 ..).trans ((gs_if ..).trans (ic9 ((x89_106 ..).trans ((x89_107 ..).trans ((gs_if ..).trans (ic9 ((x89_108 ..).trans ((gs_if ..).trans (ic9 ((x89_111 ..)) (rfl)))) rfl)))) rfl))) rfl)))) ((x89_114 ..).trans ((x89_115 ..).trans ((gs_if ..).trans (ic9 ((x89_118 ..).trans ((gs_if ..).trans (ic9 ((x89_121 ..).trans ((x89_122 ..).trans ((gs_if ..).trans (ic9 ((x89_123 ..).trans ((gs_if ..).trans (ic9 (rfl) ((x89_126 ..).trans ((x89_128 ..).trans ((gs_if ..).trans (ic9 (rfl) (rfl)))))))) rfl)))) rfl))) rfl)))))))) ((x89_40 ..).trans ((x89_41 ..).trans ((gs_if ..).trans (ic9 ((x89_44 ..).trans ((gs_if ..).trans (ic9 ((x89_47 ..).trans ((x89_48 ..).trans ((gs_if ..).trans (ic9 ((x89_49 ..).trans ((x89_51 ..).trans ((x89_52 ..).trans ((x89_53 ..).trans ((x89_54 ..).trans ((x89_55 ..).trans ((gs_if ..).trans (ic9 ((x89_58 ..).trans ((x89_59 ..).trans ((gs_if ..).trans (ic9 ((x89_62 ..).trans ((gs_if ..).trans ((ia9 (by simp)).trans (ic9 rfl rfl)))) rfl)))) (rfl))))))))) rfl)))) rfl))) rfl))))))) rfl))) rfl))))
theorem s89_65 (d : Nat) (h : gd_H) (v0 : Nat) (v1 : Int32) (v2 : Int32) (v3 : Int32) (v4 : Int32) (v5 : Int32) (z0 : Nat) : go gd_P0 d 89 65 [.ref v0, .int v1, .int v2, .int v3, .int v4, .int v5] [.ref z0] h =
    if gT h z0 = 4 then if gT h (gR h z0 1) = 31 ∧ ¬ (v5 < 0 ∨ gL h (gR h z0 1) ≤ Int32.toNatClampNeg v5) then if gT h v0 = 1 then if gT h (gR h v0 2) = 3 then gc gd_P0 d 89 75 78 [.ref v0, .int v1, .int v2, .int v3, .int v4, .int v5] [.int (gI h (gR h z0 1) (Int32.toNatClampNeg v5))] (run gd_P0 d 145 [.ref (gR h v0 2)] h) else none else none else none else none :=
  (x89_65 ..).trans ((gs_nif ..).trans (ic9 ((x89_68 ..).trans ((x89_70 ..).trans ((gs_if ..).trans (ic9 ((x89_71 ..).trans ((x89_72 ..).trans ((gs_if ..).trans (ic9 ((x89_75 ..).trans ((gs_if ..).trans ((ia9 (by simp)).trans (ic9 rfl rfl)))) rfl)))) rfl)))) rfl))
theorem s89_78 (d : Nat) (h : gd_H) (v0 : Nat) (v1 : Int32) (v2 : Int32) (v3 : Int32) (v4 : Int32) (v5 : Int32) (z0 : Nat) (z1 : Int32) : go gd_P0 d 89 78 [.ref v0, .int v1, .int v2, .int v3, .int v4, .int v5] [.ref z0, .int z1] h =
    if gT h z0 = 4 then if gT h (gR h z0 1) = 31 ∧ ¬ (v3 < 0 ∨ gL h (gR h z0 1) ≤ Int32.toNatClampNeg v3) then if z1 ≤ (gI h (gR h z0 1) (Int32.toNatClampNeg v3)) then go gd_P0 d 89 89 [.ref v0, .int v1, .int v2, .int v3, .int v4, .int v5] [] h else go gd_P0 d 89 89 [.ref v0, .int v1, .int v2, .int v3, .int (v4 + 1), .int v5] [] h else none else none :=
  (x89_78 ..).trans ((gs_nif ..).trans (ic9 ((x89_81 ..).trans ((x89_82 ..).trans ((gs_if ..).trans (ic9 ((x89_83 ..).trans ((gs_if ..).trans (ic9 (rfl) ((x89_86 ..))))) rfl)))) rfl))
theorem s89_89 (d : Nat) (h : gd_H) (v0 : Nat) (v1 : Int32) (v2 : Int32) (v3 : Int32) (v4 : Int32) (v5 : Int32) : go gd_P0 d 89 89 [.ref v0, .int v1, .int v2, .int v3, .int v4, .int v5] [] h =
    go gd_P0 d 89 28 [.ref v0, .int v1, .int v2, .int v3, .int v4, .int (v5 + 1)] [] h :=
  (x89_89 ..).trans ((x89_92 ..))
theorem s89_131 (d : Nat) (h : gd_H) (v0 : Nat) (v1 : Int32) (v2 : Int32) (v3 : Int32) (w4 : Value) (w5 : Value) : go gd_P0 d 89 131 [.ref v0, .int v1, .int v2, .int v3, w4, w5] [] h =
    go gd_P0 d 89 137 [.ref v0, .int v1, .int (v2 ||| ((1 : Int32) <<< (v3 &&& 31))), .int v3, .null, .null] [] h :=
  (x89_131 ..).trans ((x89_132 ..).trans ((x89_133 ..).trans ((x89_134 ..).trans ((x89_135 ..).trans ((x89_136 ..))))))
theorem s89_137 (d : Nat) (h : gd_H) (v0 : Nat) (v1 : Int32) (v2 : Int32) (v3 : Int32) (w4 : Value) (w5 : Value) : go gd_P0 d 89 137 [.ref v0, .int v1, .int v2, .int v3, w4, w5] [] h =
    go gd_P0 d 89 11 [.ref v0, .int v1, .int v2, .int (v3 + 1), .null, .null] [] h :=
  (x89_137 ..).trans ((x89_140 ..))
theorem r89 (d : Nat) (h : gd_H) (v0 : Nat) (v1 : Int32) : run gd_P0 (d + 1) 89 [.ref v0, .int v1] h = go gd_P0 d 89 0 [.ref v0, .int v1, .null, .null, .null, .null] [] h := run_succ gd_P0 d 89 [.ref v0, .int v1] h (Nat.le_of_ble_eq_true rfl)
theorem x90_0 (d : Nat) (L st : List Value) (h : gd_H) : go gd_P0 d 90 0 L st h = gs gd_P0 d 90 0 L (i_ald 0 1 L st h) := go_eq gd_P0 d 90 0 L st h
theorem x90_1 (d : Nat) (L st : List Value) (h : gd_H) : go gd_P0 d 90 1 L st h = gs gd_P0 d 90 1 L (i_ild 1 2 L st h) := go_eq gd_P0 d 90 1 L st h
theorem x90_2 (d : Nat) (L st : List Value) (h : gd_H) : go gd_P0 d 90 2 L st h = gs gd_P0 d 90 2 L (i_psh (.int 0) 3 L st h) := go_eq gd_P0 d 90 2 L st h
theorem x90_3 (d : Nat) (L st : List Value) (h : gd_H) : go gd_P0 d 90 3 L st h = gs gd_P0 d 90 3 L (i_psh (.int 1) 4 L st h) := go_eq gd_P0 d 90 3 L st h
theorem x90_4 (d : Nat) (L st : List Value) (h : gd_H) : go gd_P0 d 90 4 L st h = gs gd_P0 d 90 4 L (i_cV 53 3 1 7 L st h) := go_eq gd_P0 d 90 4 L st h
theorem x90_7 (d : Nat) (L st : List Value) (h : gd_H) : go gd_P0 d 90 7 L st h = gs gd_P0 d 90 7 L (i_msk [true, true, false, false] (i_psh (.int 0) 8) L st h) := go_eq gd_P0 d 90 7 L st h
theorem x90_8 (d : Nat) (L st : List Value) (h : gd_H) : go gd_P0 d 90 8 L st h = gs gd_P0 d 90 8 L (i_ist 2 9 L st h) := go_eq gd_P0 d 90 8 L st h
theorem x90_9 (d : Nat) (L st : List Value) (h : gd_H) : go gd_P0 d 90 9 L st h = gs gd_P0 d 90 9 L (i_psh (.int 1) 10 L st h) := go_eq gd_P0 d 90 9 L st h
theorem x90_10 (d : Nat) (L st : List Value) (h : gd_H) : go gd_P0 d 90 10 L st h = gs gd_P0 d 90 10 L (i_ist 3 11 L st h) := go_eq gd_P0 d 90 10 L st h
theorem x90_11 (d : Nat) (L st : List Value) (h : gd_H) : go gd_P0 d 90 11 L st h = gs gd_P0 d 90 11 L (i_msk [true, true, true, true] (i_ild 3 12) L st h) := go_eq gd_P0 d 90 11 L st h
theorem x90_12 (d : Nat) (L st : List Value) (h : gd_H) : go gd_P0 d 90 12 L st h = gs gd_P0 d 90 12 L (i_psh (.int 12) 14 L st h) := go_eq gd_P0 d 90 12 L st h
theorem x90_14 (d : Nat) (L st : List Value) (h : gd_H) : go gd_P0 d 90 14 L st h = gs gd_P0 d 90 14 L (i_icge 46 17 L st h) := go_eq gd_P0 d 90 14 L st h
theorem x90_17 (d : Nat) (L st : List Value) (h : gd_H) : go gd_P0 d 90 17 L st h = gs gd_P0 d 90 17 L (i_ald 0 18 L st h) := go_eq gd_P0 d 90 17 L st h
theorem x90_18 (d : Nat) (L st : List Value) (h : gd_H) : go gd_P0 d 90 18 L st h = gs gd_P0 d 90 18 L (i_getR 1 15 21 L st h) := go_eq gd_P0 d 90 18 L st h
theorem x90_21 (d : Nat) (L st : List Value) (h : gd_H) : go gd_P0 d 90 21 L st h = gs gd_P0 d 90 21 L (i_getR 6 5 24 L st h) := go_eq gd_P0 d 90 21 L st h
theorem x90_24 (d : Nat) (L st : List Value) (h : gd_H) : go gd_P0 d 90 24 L st h = gs gd_P0 d 90 24 L (i_ild 3 25 L st h) := go_eq gd_P0 d 90 24 L st h
theorem x90_25 (d : Nat) (L st : List Value) (h : gd_H) : go gd_P0 d 90 25 L st h = gs gd_P0 d 90 25 L (i_aldI 31 26 L st h) := go_eq gd_P0 d 90 25 L st h
theorem x90_26 (d : Nat) (L st : List Value) (h : gd_H) : go gd_P0 d 90 26 L st h = gs gd_P0 d 90 26 L (i_ald 0 27 L st h) := go_eq gd_P0 d 90 26 L st h
theorem x90_27 (d : Nat) (L st : List Value) (h : gd_H) : go gd_P0 d 90 27 L st h = gs gd_P0 d 90 27 L (i_getR 1 15 30 L st h) := go_eq gd_P0 d 90 27 L st h
theorem x90_30 (d : Nat) (L st : List Value) (h : gd_H) : go gd_P0 d 90 30 L st h = gs gd_P0 d 90 30 L (i_getR 6 5 33 L st h) := go_eq gd_P0 d 90 30 L st h
theorem x90_33 (d : Nat) (L st : List Value) (h : gd_H) : go gd_P0 d 90 33 L st h = gs gd_P0 d 90 33 L (i_ild 2 34 L st h) := go_eq gd_P0 d 90 33 L st h
theorem x90_34 (d : Nat) (L st : List Value) (h : gd_H) : go gd_P0 d 90 34 L st h = gs gd_P0 d 90 34 L (i_aldI 31 35 L st h) := go_eq gd_P0 d 90 34 L st h
theorem x90_35 (d : Nat) (L st : List Value) (h : gd_H) : go gd_P0 d 90 35 L st h = gs gd_P0 d 90 35 L (i_icge 40 38 L st h) := go_eq gd_P0 d 90 35 L st h
theorem x90_38 (d : Nat) (L st : List Value) (h : gd_H) : go gd_P0 d 90 38 L st h = gs gd_P0 d 90 38 L (i_ild 3 39 L st h) := go_eq gd_P0 d 90 38 L st h
theorem x90_39 (d : Nat) (L st : List Value) (h : gd_H) : go gd_P0 d 90 39 L st h = gs gd_P0 d 90 39 L (i_ist 2 40 L st h) := go_eq gd_P0 d 90 39 L st h
theorem x90_40 (d : Nat) (L st : List Value) (h : gd_H) : go gd_P0 d 90 40 L st h = gs gd_P0 d 90 40 L (i_msk [true, true, true, true] (i_inc 3 1 43) L st h) := go_eq gd_P0 d 90 40 L st h
theorem x90_43 (d : Nat) (L st : List Value) (h : gd_H) : go gd_P0 d 90 43 L st h = gs gd_P0 d 90 43 L (i_goto 11 L st h) := go_eq gd_P0 d 90 43 L st h
theorem x90_46 (d : Nat) (L st : List Value) (h : gd_H) : go gd_P0 d 90 46 L st h = gs gd_P0 d 90 46 L (i_ild 1 47 L st h) := go_eq gd_P0 d 90 46 L st h
theorem x90_47 (d : Nat) (L st : List Value) (h : gd_H) : go gd_P0 d 90 47 L st h = gs gd_P0 d 90 47 L (i_ifne 54 50 L st h) := go_eq gd_P0 d 90 47 L st h
theorem x90_50 (d : Nat) (L st : List Value) (h : gd_H) : go gd_P0 d 90 50 L st h = gs gd_P0 d 90 50 L (i_ild 2 51 L st h) := go_eq gd_P0 d 90 50 L st h
theorem x90_51 (d : Nat) (L st : List Value) (h : gd_H) : go gd_P0 d 90 51 L st h = gs gd_P0 d 90 51 L (i_goto 63 L st h) := go_eq gd_P0 d 90 51 L st h
theorem x90_54 (d : Nat) (L st : List Value) (h : gd_H) : go gd_P0 d 90 54 L st h = gs gd_P0 d 90 54 L (i_ald 0 55 L st h) := go_eq gd_P0 d 90 54 L st h
theorem x90_55 (d : Nat) (L st : List Value) (h : gd_H) : go gd_P0 d 90 55 L st h = gs gd_P0 d 90 55 L (i_getR 1 15 58 L st h) := go_eq gd_P0 d 90 55 L st h
theorem x90_58 (d : Nat) (L st : List Value) (h : gd_H) : go gd_P0 d 90 58 L st h = gs gd_P0 d 90 58 L (i_getR 6 5 61 L st h) := go_eq gd_P0 d 90 58 L st h
theorem x90_61 (d : Nat) (L st : List Value) (h : gd_H) : go gd_P0 d 90 61 L st h = gs gd_P0 d 90 61 L (i_ild 2 62 L st h) := go_eq gd_P0 d 90 61 L st h
theorem x90_62 (d : Nat) (L st : List Value) (h : gd_H) : go gd_P0 d 90 62 L st h = gs gd_P0 d 90 62 L (i_aldI 31 63 L st h) := go_eq gd_P0 d 90 62 L st h
theorem x90_63 (d : Nat) (L st : List Value) (h : gd_H) : go gd_P0 d 90 63 L st h = gs gd_P0 d 90 63 L (i_msk [false, false, false, false] (i_iret) L st h) := go_eq gd_P0 d 90 63 L st h
theorem s90_0 (d : Nat) (h : gd_H) (v0 : Nat) (v1 : Int32) : go gd_P0 d 90 0 [.ref v0, .int v1, .null, .null] [] h =
    if gT h v0 = 1 then gc gd_P0 d 90 4 7 [.ref v0, .int v1, .null, .null] [] (run gd_P0 d 53 [.ref v0, .int v1, .int 0, .int 1] h) else none :=
  (x90_0 ..).trans ((x90_1 ..).trans ((x90_2 ..).trans ((x90_3 ..).trans ((x90_4 ..).trans ((gs_if ..).trans ((ia9 (by simp)).trans (ic9 rfl rfl)))))))
theorem s90_7 (d : Nat) (h : gd_H) (v0 : Nat) (v1 : Int32) (w2 : Value) (w3 : Value) : go gd_P0 d 90 7 [.ref v0, .int v1, w2, w3] [] h =
    go gd_P0 d 90 11 [.ref v0, .int v1, .int 0, .int 1] [] h :=
  (x90_7 ..).trans ((x90_8 ..).trans ((x90_9 ..).trans ((x90_10 ..))))
theorem s90_11 (d : Nat) (h : gd_H) (v0 : Nat) (v1 : Int32) (v2 : Int32) (v3 : Int32) : go gd_P0 d 90 11 [.ref v0, .int v1, .int v2, .int v3] [] h =
    if 12 ≤ v3 then if v1 = 0 then go gd_P0 d 90 63 [.ref v0, .int v1, .int v2, .int v3] [.int v2] h else if gT h v0 = 1 then if gT h (gR h v0 15) = 6 then if gT h (gR h (gR h v0 15) 5) = 31 ∧ ¬ (v2 < 0 ∨ gL h (gR h (gR h v0 15) 5) ≤ Int32.toNatClampNeg v2) then go gd_P0 d 90 63 [.ref v0, .int v1, .int v2, .int v3] [.int (gI h (gR h (gR h v0 15) 5) (Int32.toNatClampNeg v2))] h else none else none else none else if gT h v0 = 1 then if gT h (gR h v0 15) = 6 then if gT h (gR h (gR h v0 15) 5) = 31 ∧ ¬ (v3 < 0 ∨ gL h (gR h (gR h v0 15) 5) ≤ Int32.toNatClampNeg v3) then if gT h v0 = 1 then if gT h (gR h v0 15) = 6 then if gT h (gR h (gR h v0 15) 5) = 31 ∧ ¬ (v2 < 0 ∨ gL h (gR h (gR h v0 15) 5) ≤ Int32.toNatClampNeg v2) then if (gI h (gR h (gR h v0 15) 5) (Int32.toNatClampNeg v2)) ≤ (gI h (gR h (gR h v0 15) 5) (Int32.toNatClampNeg v3)) then go gd_P0 d 90 40 [.ref v0, .int v1, .int v2, .int v3] [] h else go gd_P0 d 90 40 [.ref v0, .int v1, .int v3, .int v3] [] h else none else none else none else none else none else none :=
  (x90_11 ..).trans ((x90_12 ..).trans ((x90_14 ..).trans ((gs_if ..).trans (ic9 ((x90_46 ..).trans ((x90_47 ..).trans ((gs_if ..).trans (ic9 ((x90_50 ..).trans ((x90_51 ..))) ((x90_54 ..).trans ((x90_55 ..).trans ((gs_if ..).trans (ic9 ((x90_58 ..).trans ((gs_if ..).trans (ic9 ((x90_61 ..).trans ((x90_62 ..).trans ((gs_if ..).trans (ic9 (rfl) rfl)))) rfl))) rfl)))))))) ((x90_17 ..).trans ((x90_18 ..).trans ((gs_if ..).trans (ic9 ((x90_21 ..).trans ((gs_if ..).trans (ic9 ((x90_24 ..).trans ((x90_25 ..).trans ((gs_if ..).trans (ic9 ((x90_26 ..).trans ((x90_27 ..).trans ((gs_if ..).trans (ic9 ((x90_30 ..).trans ((gs_if ..).trans (ic9 ((x90_33 ..).trans ((x90_34 ..).trans ((gs_if ..).trans (ic9 ((x90_35 ..).trans ((gs_if ..).trans (ic9 (rfl) ((x90_38 ..).trans ((x90_39 ..)))))) rfl)))) rfl))) rfl)))) rfl)))) rfl))) rfl))))))))
theorem s90_40 (d : Nat) (h : gd_H) (v0 : Nat) (v1 : Int32) (v2 : Int32) (v3 : Int32) : go gd_P0 d 90 40 [.ref v0, .int v1, .int v2, .int v3] [] h =
    go gd_P0 d 90 11 [.ref v0, .int v1, .int v2, .int (v3 + 1)] [] h :=
  (x90_40 ..).trans ((x90_43 ..))
theorem s90_63 (d : Nat) (h : gd_H) (w0 : Value) (w1 : Value) (w2 : Value) (w3 : Value) (z0 : Int32) : go gd_P0 d 90 63 [w0, w1, w2, w3] [.int z0] h =
    some (.inl (some (.int z0)), h) :=
  (x90_63 ..)
theorem r90 (d : Nat) (h : gd_H) (v0 : Nat) (v1 : Int32) : run gd_P0 (d + 1) 90 [.ref v0, .int v1] h = go gd_P0 d 90 0 [.ref v0, .int v1, .null, .null] [] h := run_succ gd_P0 d 90 [.ref v0, .int v1] h (Nat.le_of_ble_eq_true rfl)
theorem x91_0 (d : Nat) (L st : List Value) (h : gd_H) : go gd_P0 d 91 0 L st h = gs gd_P0 d 91 0 L (i_ald 0 1 L st h) := go_eq gd_P0 d 91 0 L st h
theorem x91_1 (d : Nat) (L st : List Value) (h : gd_H) : go gd_P0 d 91 1 L st h = gs gd_P0 d 91 1 L (i_ild 2 2 L st h) := go_eq gd_P0 d 91 1 L st h
theorem x91_2 (d : Nat) (L st : List Value) (h : gd_H) : go gd_P0 d 91 2 L st h = gs gd_P0 d 91 2 L (i_ild 3 3 L st h) := go_eq gd_P0 d 91 2 L st h
theorem x91_3 (d : Nat) (L st : List Value) (h : gd_H) : go gd_P0 d 91 3 L st h = gs gd_P0 d 91 3 L (i_cV 92 2 1 6 L st h) := go_eq gd_P0 d 91 3 L st h
theorem x91_6 (d : Nat) (L st : List Value) (h : gd_H) : go gd_P0 d 91 6 L st h = gs gd_P0 d 91 6 L (i_msk [true, true, true, true, true, false] (i_ald 0 7) L st h) := go_eq gd_P0 d 91 6 L st h
theorem x91_7 (d : Nat) (L st : List Value) (h : gd_H) : go gd_P0 d 91 7 L st h = gs gd_P0 d 91 7 L (i_ild 4 9 L st h) := go_eq gd_P0 d 91 7 L st h
theorem x91_9 (d : Nat) (L st : List Value) (h : gd_H) : go gd_P0 d 91 9 L st h = gs gd_P0 d 91 9 L (i_psh (.int 0) 10 L st h) := go_eq gd_P0 d 91 9 L st h
theorem x91_10 (d : Nat) (L st : List Value) (h : gd_H) : go gd_P0 d 91 10 L st h = gs gd_P0 d 91 10 L (i_psh (.int 3) 11 L st h) := go_eq gd_P0 d 91 10 L st h
theorem x91_11 (d : Nat) (L st : List Value) (h : gd_H) : go gd_P0 d 91 11 L st h = gs gd_P0 d 91 11 L (i_cV 53 3 1 14 L st h) := go_eq gd_P0 d 91 11 L st h
theorem x91_14 (d : Nat) (L st : List Value) (h : gd_H) : go gd_P0 d 91 14 L st h = gs gd_P0 d 91 14 L (i_msk [true, true, true, true, true, false] (i_ald 0 15) L st h) := go_eq gd_P0 d 91 14 L st h
theorem x91_15 (d : Nat) (L st : List Value) (h : gd_H) : go gd_P0 d 91 15 L st h = gs gd_P0 d 91 15 L (i_ild 1 16 L st h) := go_eq gd_P0 d 91 15 L st h
theorem x91_16 (d : Nat) (L st : List Value) (h : gd_H) : go gd_P0 d 91 16 L st h = gs gd_P0 d 91 16 L (i_ild 2 17 L st h) := go_eq gd_P0 d 91 16 L st h
theorem x91_17 (d : Nat) (L st : List Value) (h : gd_H) : go gd_P0 d 91 17 L st h = gs gd_P0 d 91 17 L (i_ild 3 18 L st h) := go_eq gd_P0 d 91 17 L st h
theorem x91_18 (d : Nat) (L st : List Value) (h : gd_H) : go gd_P0 d 91 18 L st h = gs gd_P0 d 91 18 L (i_cV 93 3 1 21 L st h) := go_eq gd_P0 d 91 18 L st h
theorem x91_21 (d : Nat) (L st : List Value) (h : gd_H) : go gd_P0 d 91 21 L st h = gs gd_P0 d 91 21 L (i_msk [true, false, false, false, true, false] (i_ast 5 23) L st h) := go_eq gd_P0 d 91 21 L st h
theorem x91_23 (d : Nat) (L st : List Value) (h : gd_H) : go gd_P0 d 91 23 L st h = gs gd_P0 d 91 23 L (i_ild 4 25 L st h) := go_eq gd_P0 d 91 23 L st h
theorem x91_25 (d : Nat) (L st : List Value) (h : gd_H) : go gd_P0 d 91 25 L st h = gs gd_P0 d 91 25 L (i_ifne 36 28 L st h) := go_eq gd_P0 d 91 25 L st h
theorem x91_28 (d : Nat) (L st : List Value) (h : gd_H) : go gd_P0 d 91 28 L st h = gs gd_P0 d 91 28 L (i_ald 5 30 L st h) := go_eq gd_P0 d 91 28 L st h
theorem x91_30 (d : Nat) (L st : List Value) (h : gd_H) : go gd_P0 d 91 30 L st h = gs gd_P0 d 91 30 L (i_cV 158 0 4 33 L st h) := go_eq gd_P0 d 91 30 L st h
theorem x91_33 (d : Nat) (L st : List Value) (h : gd_H) : go gd_P0 d 91 33 L st h = gs gd_P0 d 91 33 L (i_msk [false, false, false, false, false, false] (i_goto 68) L st h) := go_eq gd_P0 d 91 33 L st h
theorem x91_36 (d : Nat) (L st : List Value) (h : gd_H) : go gd_P0 d 91 36 L st h = gs gd_P0 d 91 36 L (i_ild 4 38 L st h) := go_eq gd_P0 d 91 36 L st h
theorem x91_38 (d : Nat) (L st : List Value) (h : gd_H) : go gd_P0 d 91 38 L st h = gs gd_P0 d 91 38 L (i_psh (.int 1) 39 L st h) := go_eq gd_P0 d 91 38 L st h
theorem x91_39 (d : Nat) (L st : List Value) (h : gd_H) : go gd_P0 d 91 39 L st h = gs gd_P0 d 91 39 L (i_icne 50 42 L st h) := go_eq gd_P0 d 91 39 L st h
theorem x91_42 (d : Nat) (L st : List Value) (h : gd_H) : go gd_P0 d 91 42 L st h = gs gd_P0 d 91 42 L (i_ald 5 44 L st h) := go_eq gd_P0 d 91 42 L st h
theorem x91_44 (d : Nat) (L st : List Value) (h : gd_H) : go gd_P0 d 91 44 L st h = gs gd_P0 d 91 44 L (i_cV 168 0 4 47 L st h) := go_eq gd_P0 d 91 44 L st h
theorem x91_47 (d : Nat) (L st : List Value) (h : gd_H) : go gd_P0 d 91 47 L st h = gs gd_P0 d 91 47 L (i_msk [false, false, false, false, false, false] (i_goto 68) L st h) := go_eq gd_P0 d 91 47 L st h
theorem x91_50 (d : Nat) (L st : List Value) (h : gd_H) : go gd_P0 d 91 50 L st h = gs gd_P0 d 91 50 L (i_ild 4 52 L st h) := go_eq gd_P0 d 91 50 L st h
theorem x91_52 (d : Nat) (L st : List Value) (h : gd_H) : go gd_P0 d 91 52 L st h = gs gd_P0 d 91 52 L (i_psh (.int 2) 53 L st h) := go_eq gd_P0 d 91 52 L st h
theorem x91_53 (d : Nat) (L st : List Value) (h : gd_H) : go gd_P0 d 91 53 L st h = gs gd_P0 d 91 53 L (i_icne 64 56 L st h) := go_eq gd_P0 d 91 53 L st h
theorem x91_56 (d : Nat) (L st : List Value) (h : gd_H) : go gd_P0 d 91 56 L st h = gs gd_P0 d 91 56 L (i_ald 5 58 L st h) := go_eq gd_P0 d 91 56 L st h
theorem x91_58 (d : Nat) (L st : List Value) (h : gd_H) : go gd_P0 d 91 58 L st h = gs gd_P0 d 91 58 L (i_cV 167 0 4 61 L st h) := go_eq gd_P0 d 91 58 L st h
theorem x91_61 (d : Nat) (L st : List Value) (h : gd_H) : go gd_P0 d 91 61 L st h = gs gd_P0 d 91 61 L (i_msk [false, false, false, false, false, false] (i_goto 68) L st h) := go_eq gd_P0 d 91 61 L st h
theorem x91_64 (d : Nat) (L st : List Value) (h : gd_H) : go gd_P0 d 91 64 L st h = gs gd_P0 d 91 64 L (i_ald 0 65 L st h) := go_eq gd_P0 d 91 64 L st h
theorem x91_65 (d : Nat) (L st : List Value) (h : gd_H) : go gd_P0 d 91 65 L st h = gs gd_P0 d 91 65 L (i_getI 1 22 68 L st h) := go_eq gd_P0 d 91 65 L st h
theorem x91_68 (d : Nat) (L st : List Value) (h : gd_H) : go gd_P0 d 91 68 L st h = gs gd_P0 d 91 68 L (i_msk [false, false, false, false, false, false] (i_iret) L st h) := go_eq gd_P0 d 91 68 L st h
theorem s91_0 (d : Nat) (h : gd_H) (v0 : Nat) (v1 : Int32) (v2 : Int32) (v3 : Int32) (v4 : Int32) : go gd_P0 d 91 0 [.ref v0, .int v1, .int v2, .int v3, .int v4, .null] [] h =
    if gT h v0 = 1 then gc gd_P0 d 91 3 6 [.ref v0, .int v1, .int v2, .int v3, .int v4, .null] [] (run gd_P0 d 92 [.ref v0, .int v2, .int v3] h) else none :=
  (x91_0 ..).trans ((x91_1 ..).trans ((x91_2 ..).trans ((x91_3 ..).trans ((gs_if ..).trans ((ia9 (by simp)).trans (ic9 rfl rfl))))))
theorem s91_6 (d : Nat) (h : gd_H) (v0 : Nat) (v1 : Int32) (v2 : Int32) (v3 : Int32) (v4 : Int32) (w5 : Value) : go gd_P0 d 91 6 [.ref v0, .int v1, .int v2, .int v3, .int v4, w5] [] h =
    if gT h v0 = 1 then gc gd_P0 d 91 11 14 [.ref v0, .int v1, .int v2, .int v3, .int v4, .null] [] (run gd_P0 d 53 [.ref v0, .int v4, .int 0, .int 3] h) else none :=
  (x91_6 ..).trans ((x91_7 ..).trans ((x91_9 ..).trans ((x91_10 ..).trans ((x91_11 ..).trans ((gs_if ..).trans ((ia9 (by simp)).trans (ic9 rfl rfl)))))))
theorem s91_14 (d : Nat) (h : gd_H) (v0 : Nat) (v1 : Int32) (v2 : Int32) (v3 : Int32) (v4 : Int32) (w5 : Value) : go gd_P0 d 91 14 [.ref v0, .int v1, .int v2, .int v3, .int v4, w5] [] h =
    if gT h v0 = 1 then gc gd_P0 d 91 18 21 [.ref v0, .int v1, .int v2, .int v3, .int v4, .null] [] (run gd_P0 d 93 [.ref v0, .int v1, .int v2, .int v3] h) else none :=
  (x91_14 ..).trans ((x91_15 ..).trans ((x91_16 ..).trans ((x91_17 ..).trans ((x91_18 ..).trans ((gs_if ..).trans ((ia9 (by simp)).trans (ic9 rfl rfl)))))))
theorem s91_21 (d : Nat) (h : gd_H) (v0 : Nat) (w1 : Value) (w2 : Value) (w3 : Value) (v4 : Int32) (w5 : Value) (z0 : Nat) : go gd_P0 d 91 21 [.ref v0, w1, w2, w3, .int v4, w5] [.ref z0] h =
    if v4 = 0 then if gT h z0 = 4 then gc gd_P0 d 91 30 33 [.ref v0, .null, .null, .null, .int v4, .ref z0] [] (run gd_P0 d 158 [.ref z0] h) else none else if v4 = 1 then if gT h z0 = 4 then gc gd_P0 d 91 44 47 [.ref v0, .null, .null, .null, .int v4, .ref z0] [] (run gd_P0 d 168 [.ref z0] h) else none else if v4 = 2 then if gT h z0 = 4 then gc gd_P0 d 91 58 61 [.ref v0, .null, .null, .null, .int v4, .ref z0] [] (run gd_P0 d 167 [.ref z0] h) else none else if gT h v0 = 1 then go gd_P0 d 91 68 [.ref v0, .null, .null, .null, .int v4, .ref z0] [.int (gI h v0 22)] h else none :=
  (x91_21 ..).trans ((x91_23 ..).trans ((x91_25 ..).trans ((gs_if ..).trans (ic9 ((x91_28 ..).trans ((x91_30 ..).trans ((gs_if ..).trans ((ia9 (by simp)).trans (ic9 rfl rfl))))) ((x91_36 ..).trans ((x91_38 ..).trans ((x91_39 ..).trans ((gs_if ..).trans (ic9 ((x91_42 ..).trans ((x91_44 ..).trans ((gs_if ..).trans ((ia9 (by simp)).trans (ic9 rfl rfl))))) ((x91_50 ..).trans ((x91_52 ..).trans ((x91_53 ..).trans ((gs_if ..).trans (ic9 ((x91_56 ..).trans ((x91_58 ..).trans ((gs_if ..).trans ((ia9 (by simp)).trans (ic9 rfl rfl))))) ((x91_64 ..).trans ((x91_65 ..).trans ((gs_if ..).trans (ic9 (rfl) rfl))))))))))))))))))
theorem s91_33 (d : Nat) (h : gd_H) (w0 : Value) (w1 : Value) (w2 : Value) (w3 : Value) (w4 : Value) (w5 : Value) (z0 : Int32) : go gd_P0 d 91 33 [w0, w1, w2, w3, w4, w5] [.int z0] h =
    go gd_P0 d 91 68 [.null, .null, .null, .null, .null, .null] [.int z0] h :=
  (x91_33 ..)
theorem s91_47 (d : Nat) (h : gd_H) (w0 : Value) (w1 : Value) (w2 : Value) (w3 : Value) (w4 : Value) (w5 : Value) (z0 : Int32) : go gd_P0 d 91 47 [w0, w1, w2, w3, w4, w5] [.int z0] h =
    go gd_P0 d 91 68 [.null, .null, .null, .null, .null, .null] [.int z0] h :=
  (x91_47 ..)
theorem s91_61 (d : Nat) (h : gd_H) (w0 : Value) (w1 : Value) (w2 : Value) (w3 : Value) (w4 : Value) (w5 : Value) (z0 : Int32) : go gd_P0 d 91 61 [w0, w1, w2, w3, w4, w5] [.int z0] h =
    go gd_P0 d 91 68 [.null, .null, .null, .null, .null, .null] [.int z0] h :=
  (x91_61 ..)
theorem s91_68 (d : Nat) (h : gd_H) (w0 : Value) (w1 : Value) (w2 : Value) (w3 : Value) (w4 : Value) (w5 : Value) (z0 : Int32) : go gd_P0 d 91 68 [w0, w1, w2, w3, w4, w5] [.int z0] h =
    some (.inl (some (.int z0)), h) :=
  (x91_68 ..)
theorem r91 (d : Nat) (h : gd_H) (v0 : Nat) (v1 : Int32) (v2 : Int32) (v3 : Int32) (v4 : Int32) : run gd_P0 (d + 1) 91 [.ref v0, .int v1, .int v2, .int v3, .int v4] h = go gd_P0 d 91 0 [.ref v0, .int v1, .int v2, .int v3, .int v4, .null] [] h := run_succ gd_P0 d 91 [.ref v0, .int v1, .int v2, .int v3, .int v4] h (Nat.le_of_ble_eq_true rfl)
theorem x92_0 (d : Nat) (L st : List Value) (h : gd_H) : go gd_P0 d 92 0 L st h = gs gd_P0 d 92 0 L (i_ald 0 1 L st h) := go_eq gd_P0 d 92 0 L st h
theorem x92_1 (d : Nat) (L st : List Value) (h : gd_H) : go gd_P0 d 92 1 L st h = gs gd_P0 d 92 1 L (i_ild 1 2 L st h) := go_eq gd_P0 d 92 1 L st h
theorem x92_2 (d : Nat) (L st : List Value) (h : gd_H) : go gd_P0 d 92 2 L st h = gs gd_P0 d 92 2 L (i_psh (.int 0) 3 L st h) := go_eq gd_P0 d 92 2 L st h
theorem x92_3 (d : Nat) (L st : List Value) (h : gd_H) : go gd_P0 d 92 3 L st h = gs gd_P0 d 92 3 L (i_psh (.int 16) 5 L st h) := go_eq gd_P0 d 92 3 L st h
theorem x92_5 (d : Nat) (L st : List Value) (h : gd_H) : go gd_P0 d 92 5 L st h = gs gd_P0 d 92 5 L (i_cV 53 3 1 8 L st h) := go_eq gd_P0 d 92 5 L st h
theorem x92_8 (d : Nat) (L st : List Value) (h : gd_H) : go gd_P0 d 92 8 L st h = gs gd_P0 d 92 8 L (i_msk [true, false, true] (i_ald 0 9) L st h) := go_eq gd_P0 d 92 8 L st h
theorem x92_9 (d : Nat) (L st : List Value) (h : gd_H) : go gd_P0 d 92 9 L st h = gs gd_P0 d 92 9 L (i_ild 2 10 L st h) := go_eq gd_P0 d 92 9 L st h
theorem x92_10 (d : Nat) (L st : List Value) (h : gd_H) : go gd_P0 d 92 10 L st h = gs gd_P0 d 92 10 L (i_psh (.int 1) 11 L st h) := go_eq gd_P0 d 92 10 L st h
theorem x92_11 (d : Nat) (L st : List Value) (h : gd_H) : go gd_P0 d 92 11 L st h = gs gd_P0 d 92 11 L (i_psh (.int 96) 13 L st h) := go_eq gd_P0 d 92 11 L st h
theorem x92_13 (d : Nat) (L st : List Value) (h : gd_H) : go gd_P0 d 92 13 L st h = gs gd_P0 d 92 13 L (i_cV 53 3 1 16 L st h) := go_eq gd_P0 d 92 13 L st h
theorem x92_16 (d : Nat) (L st : List Value) (h : gd_H) : go gd_P0 d 92 16 L st h = gs gd_P0 d 92 16 L (i_msk [false, false, false] (i_ret) L st h) := go_eq gd_P0 d 92 16 L st h
theorem s92_0 (d : Nat) (h : gd_H) (v0 : Nat) (v1 : Int32) (v2 : Int32) : go gd_P0 d 92 0 [.ref v0, .int v1, .int v2] [] h =
    if gT h v0 = 1 then gc gd_P0 d 92 5 8 [.ref v0, .int v1, .int v2] [] (run gd_P0 d 53 [.ref v0, .int v1, .int 0, .int 16] h) else none :=
  (x92_0 ..).trans ((x92_1 ..).trans ((x92_2 ..).trans ((x92_3 ..).trans ((x92_5 ..).trans ((gs_if ..).trans ((ia9 (by simp)).trans (ic9 rfl rfl)))))))
theorem s92_8 (d : Nat) (h : gd_H) (v0 : Nat) (w1 : Value) (v2 : Int32) : go gd_P0 d 92 8 [.ref v0, w1, .int v2] [] h =
    if gT h v0 = 1 then gc gd_P0 d 92 13 16 [.ref v0, .null, .int v2] [] (run gd_P0 d 53 [.ref v0, .int v2, .int 1, .int 96] h) else none :=
  (x92_8 ..).trans ((x92_9 ..).trans ((x92_10 ..).trans ((x92_11 ..).trans ((x92_13 ..).trans ((gs_if ..).trans ((ia9 (by simp)).trans (ic9 rfl rfl)))))))
theorem s92_16 (d : Nat) (h : gd_H) (w0 : Value) (w1 : Value) (w2 : Value) : go gd_P0 d 92 16 [w0, w1, w2] [] h =
    some (.inl none, h) :=
  (x92_16 ..)
theorem r92 (d : Nat) (h : gd_H) (v0 : Nat) (v1 : Int32) (v2 : Int32) : run gd_P0 (d + 1) 92 [.ref v0, .int v1, .int v2] h = go gd_P0 d 92 0 [.ref v0, .int v1, .int v2] [] h := run_succ gd_P0 d 92 [.ref v0, .int v1, .int v2] h (Nat.le_of_ble_eq_true rfl)
theorem x93_0 (d : Nat) (L st : List Value) (h : gd_H) : go gd_P0 d 93 0 L st h = gs gd_P0 d 93 0 L (i_ald 0 1 L st h) := go_eq gd_P0 d 93 0 L st h
theorem x93_1 (d : Nat) (L st : List Value) (h : gd_H) : go gd_P0 d 93 1 L st h = gs gd_P0 d 93 1 L (i_ild 1 2 L st h) := go_eq gd_P0 d 93 1 L st h
theorem x93_2 (d : Nat) (L st : List Value) (h : gd_H) : go gd_P0 d 93 2 L st h = gs gd_P0 d 93 2 L (i_putI 1 21 5 L st h) := go_eq gd_P0 d 93 2 L st h
theorem x93_5 (d : Nat) (L st : List Value) (h : gd_H) : go gd_P0 d 93 5 L st h = gs gd_P0 d 93 5 L (i_ald 0 6 L st h) := go_eq gd_P0 d 93 5 L st h
theorem x93_6 (d : Nat) (L st : List Value) (h : gd_H) : go gd_P0 d 93 6 L st h = gs gd_P0 d 93 6 L (i_psh (.int 0) 7 L st h) := go_eq gd_P0 d 93 6 L st h
theorem x93_7 (d : Nat) (L st : List Value) (h : gd_H) : go gd_P0 d 93 7 L st h = gs gd_P0 d 93 7 L (i_putI 1 22 10 L st h) := go_eq gd_P0 d 93 7 L st h
theorem x93_10 (d : Nat) (L st : List Value) (h : gd_H) : go gd_P0 d 93 10 L st h = gs gd_P0 d 93 10 L (i_ald 0 11 L st h) := go_eq gd_P0 d 93 10 L st h
theorem x93_11 (d : Nat) (L st : List Value) (h : gd_H) : go gd_P0 d 93 11 L st h = gs gd_P0 d 93 11 L (i_cV 68 0 1 14 L st h) := go_eq gd_P0 d 93 11 L st h
theorem x93_14 (d : Nat) (L st : List Value) (h : gd_H) : go gd_P0 d 93 14 L st h = gs gd_P0 d 93 14 L (i_msk [true, false, true, true, false, false] (i_pop 15) L st h) := go_eq gd_P0 d 93 14 L st h
theorem x93_15 (d : Nat) (L st : List Value) (h : gd_H) : go gd_P0 d 93 15 L st h = gs gd_P0 d 93 15 L (i_psh (.int 0) 16 L st h) := go_eq gd_P0 d 93 15 L st h
theorem x93_16 (d : Nat) (L st : List Value) (h : gd_H) : go gd_P0 d 93 16 L st h = gs gd_P0 d 93 16 L (i_ist 4 18 L st h) := go_eq gd_P0 d 93 16 L st h
theorem x93_18 (d : Nat) (L st : List Value) (h : gd_H) : go gd_P0 d 93 18 L st h = gs gd_P0 d 93 18 L (i_msk [true, false, true, true, true, false] (i_ild 4 20) L st h) := go_eq gd_P0 d 93 18 L st h
theorem x93_20 (d : Nat) (L st : List Value) (h : gd_H) : go gd_P0 d 93 20 L st h = gs gd_P0 d 93 20 L (i_ild 3 21 L st h) := go_eq gd_P0 d 93 20 L st h
theorem x93_21 (d : Nat) (L st : List Value) (h : gd_H) : go gd_P0 d 93 21 L st h = gs gd_P0 d 93 21 L (i_icge 131 24 L st h) := go_eq gd_P0 d 93 21 L st h
theorem x93_24 (d : Nat) (L st : List Value) (h : gd_H) : go gd_P0 d 93 24 L st h = gs gd_P0 d 93 24 L (i_ald 0 25 L st h) := go_eq gd_P0 d 93 24 L st h
theorem x93_25 (d : Nat) (L st : List Value) (h : gd_H) : go gd_P0 d 93 25 L st h = gs gd_P0 d 93 25 L (i_getR 1 15 28 L st h) := go_eq gd_P0 d 93 25 L st h
theorem x93_28 (d : Nat) (L st : List Value) (h : gd_H) : go gd_P0 d 93 28 L st h = gs gd_P0 d 93 28 L (i_getI 6 7 31 L st h) := go_eq gd_P0 d 93 28 L st h
theorem x93_31 (d : Nat) (L st : List Value) (h : gd_H) : go gd_P0 d 93 31 L st h = gs gd_P0 d 93 31 L (i_ifle 118 34 L st h) := go_eq gd_P0 d 93 31 L st h
theorem x93_34 (d : Nat) (L st : List Value) (h : gd_H) : go gd_P0 d 93 34 L st h = gs gd_P0 d 93 34 L (i_ald 0 35 L st h) := go_eq gd_P0 d 93 34 L st h
theorem x93_35 (d : Nat) (L st : List Value) (h : gd_H) : go gd_P0 d 93 35 L st h = gs gd_P0 d 93 35 L (i_getR 1 4 38 L st h) := go_eq gd_P0 d 93 35 L st h
theorem x93_38 (d : Nat) (L st : List Value) (h : gd_H) : go gd_P0 d 93 38 L st h = gs gd_P0 d 93 38 L (i_ald 0 39 L st h) := go_eq gd_P0 d 93 38 L st h
theorem x93_39 (d : Nat) (L st : List Value) (h : gd_H) : go gd_P0 d 93 39 L st h = gs gd_P0 d 93 39 L (i_ald 0 40 L st h) := go_eq gd_P0 d 93 39 L st h
theorem x93_40 (d : Nat) (L st : List Value) (h : gd_H) : go gd_P0 d 93 40 L st h = gs gd_P0 d 93 40 L (i_getR 1 15 43 L st h) := go_eq gd_P0 d 93 40 L st h
theorem x93_43 (d : Nat) (L st : List Value) (h : gd_H) : go gd_P0 d 93 43 L st h = gs gd_P0 d 93 43 L (i_getI 6 7 46 L st h) := go_eq gd_P0 d 93 43 L st h
theorem x93_46 (d : Nat) (L st : List Value) (h : gd_H) : go gd_P0 d 93 46 L st h = gs gd_P0 d 93 46 L (i_cV 94 1 1 49 L st h) := go_eq gd_P0 d 93 46 L st h
theorem x93_49 (d : Nat) (L st : List Value) (h : gd_H) : go gd_P0 d 93 49 L st h = gs gd_P0 d 93 49 L (i_msk [true, false, true, true, true, false] (i_cV 160 1 4 52) L st h) := go_eq gd_P0 d 93 49 L st h
theorem x93_52 (d : Nat) (L st : List Value) (h : gd_H) : go gd_P0 d 93 52 L st h = gs gd_P0 d 93 52 L (i_msk [true, false, true, true, true, false] (i_ifeq 65 55) L st h) := go_eq gd_P0 d 93 52 L st h
theorem x93_55 (d : Nat) (L st : List Value) (h : gd_H) : go gd_P0 d 93 55 L st h = gs gd_P0 d 93 55 L (i_ald 0 56 L st h) := go_eq gd_P0 d 93 55 L st h
theorem x93_56 (d : Nat) (L st : List Value) (h : gd_H) : go gd_P0 d 93 56 L st h = gs gd_P0 d 93 56 L (i_dup 57 L st h) := go_eq gd_P0 d 93 56 L st h
theorem x93_57 (d : Nat) (L st : List Value) (h : gd_H) : go gd_P0 d 93 57 L st h = gs gd_P0 d 93 57 L (i_getI 1 22 60 L st h) := go_eq gd_P0 d 93 57 L st h
theorem x93_60 (d : Nat) (L st : List Value) (h : gd_H) : go gd_P0 d 93 60 L st h = gs gd_P0 d 93 60 L (i_psh (.int 1) 61 L st h) := go_eq gd_P0 d 93 60 L st h
theorem x93_61 (d : Nat) (L st : List Value) (h : gd_H) : go gd_P0 d 93 61 L st h = gs gd_P0 d 93 61 L (i_iadd 62 L st h) := go_eq gd_P0 d 93 61 L st h
theorem x93_62 (d : Nat) (L st : List Value) (h : gd_H) : go gd_P0 d 93 62 L st h = gs gd_P0 d 93 62 L (i_putI 1 22 65 L st h) := go_eq gd_P0 d 93 62 L st h
theorem x93_65 (d : Nat) (L st : List Value) (h : gd_H) : go gd_P0 d 93 65 L st h = gs gd_P0 d 93 65 L (i_msk [true, false, true, true, true, false] (i_ald 0 66) L st h) := go_eq gd_P0 d 93 65 L st h
theorem x93_66 (d : Nat) (L st : List Value) (h : gd_H) : go gd_P0 d 93 66 L st h = gs gd_P0 d 93 66 L (i_ald 0 67 L st h) := go_eq gd_P0 d 93 66 L st h
theorem x93_67 (d : Nat) (L st : List Value) (h : gd_H) : go gd_P0 d 93 67 L st h = gs gd_P0 d 93 67 L (i_getR 1 15 70 L st h) := go_eq gd_P0 d 93 67 L st h
theorem x93_70 (d : Nat) (L st : List Value) (h : gd_H) : go gd_P0 d 93 70 L st h = gs gd_P0 d 93 70 L (i_getI 6 7 73 L st h) := go_eq gd_P0 d 93 70 L st h
theorem x93_73 (d : Nat) (L st : List Value) (h : gd_H) : go gd_P0 d 93 73 L st h = gs gd_P0 d 93 73 L (i_cV 94 1 1 76 L st h) := go_eq gd_P0 d 93 73 L st h
theorem x93_76 (d : Nat) (L st : List Value) (h : gd_H) : go gd_P0 d 93 76 L st h = gs gd_P0 d 93 76 L (i_msk [true, false, true, true, true, false] (i_ist 5 78) L st h) := go_eq gd_P0 d 93 76 L st h
theorem x93_78 (d : Nat) (L st : List Value) (h : gd_H) : go gd_P0 d 93 78 L st h = gs gd_P0 d 93 78 L (i_ald 0 79 L st h) := go_eq gd_P0 d 93 78 L st h
theorem x93_79 (d : Nat) (L st : List Value) (h : gd_H) : go gd_P0 d 93 79 L st h = gs gd_P0 d 93 79 L (i_getR 1 4 82 L st h) := go_eq gd_P0 d 93 79 L st h
theorem x93_82 (d : Nat) (L st : List Value) (h : gd_H) : go gd_P0 d 93 82 L st h = gs gd_P0 d 93 82 L (i_ild 5 84 L st h) := go_eq gd_P0 d 93 82 L st h
theorem x93_84 (d : Nat) (L st : List Value) (h : gd_H) : go gd_P0 d 93 84 L st h = gs gd_P0 d 93 84 L (i_ald 0 85 L st h) := go_eq gd_P0 d 93 84 L st h
theorem x93_85 (d : Nat) (L st : List Value) (h : gd_H) : go gd_P0 d 93 85 L st h = gs gd_P0 d 93 85 L (i_psh (.int 10) 87 L st h) := go_eq gd_P0 d 93 85 L st h
theorem x93_87 (d : Nat) (L st : List Value) (h : gd_H) : go gd_P0 d 93 87 L st h = gs gd_P0 d 93 87 L (i_cV 94 1 1 90 L st h) := go_eq gd_P0 d 93 87 L st h
theorem x93_90 (d : Nat) (L st : List Value) (h : gd_H) : go gd_P0 d 93 90 L st h = gs gd_P0 d 93 90 L (i_msk [true, false, true, true, true, false] (i_cV 164 2 4 93) L st h) := go_eq gd_P0 d 93 90 L st h
theorem x93_93 (d : Nat) (L st : List Value) (h : gd_H) : go gd_P0 d 93 93 L st h = gs gd_P0 d 93 93 L (i_msk [true, false, true, true, true, false] (i_pop 94) L st h) := go_eq gd_P0 d 93 93 L st h
theorem x93_94 (d : Nat) (L st : List Value) (h : gd_H) : go gd_P0 d 93 94 L st h = gs gd_P0 d 93 94 L (i_ald 0 95 L st h) := go_eq gd_P0 d 93 94 L st h
theorem x93_95 (d : Nat) (L st : List Value) (h : gd_H) : go gd_P0 d 93 95 L st h = gs gd_P0 d 93 95 L (i_psh (.int 16) 97 L st h) := go_eq gd_P0 d 93 95 L st h
theorem x93_97 (d : Nat) (L st : List Value) (h : gd_H) : go gd_P0 d 93 97 L st h = gs gd_P0 d 93 97 L (i_cV 94 1 1 100 L st h) := go_eq gd_P0 d 93 97 L st h
theorem x93_100 (d : Nat) (L st : List Value) (h : gd_H) : go gd_P0 d 93 100 L st h = gs gd_P0 d 93 100 L (i_msk [true, false, true, true, true, false] (i_ild 2 101) L st h) := go_eq gd_P0 d 93 100 L st h
theorem x93_101 (d : Nat) (L st : List Value) (h : gd_H) : go gd_P0 d 93 101 L st h = gs gd_P0 d 93 101 L (i_icge 118 104 L st h) := go_eq gd_P0 d 93 101 L st h
theorem x93_104 (d : Nat) (L st : List Value) (h : gd_H) : go gd_P0 d 93 104 L st h = gs gd_P0 d 93 104 L (i_ald 0 105 L st h) := go_eq gd_P0 d 93 104 L st h
theorem x93_105 (d : Nat) (L st : List Value) (h : gd_H) : go gd_P0 d 93 105 L st h = gs gd_P0 d 93 105 L (i_getR 1 4 108 L st h) := go_eq gd_P0 d 93 105 L st h
theorem x93_108 (d : Nat) (L st : List Value) (h : gd_H) : go gd_P0 d 93 108 L st h = gs gd_P0 d 93 108 L (i_ald 0 109 L st h) := go_eq gd_P0 d 93 108 L st h
theorem x93_109 (d : Nat) (L st : List Value) (h : gd_H) : go gd_P0 d 93 109 L st h = gs gd_P0 d 93 109 L (i_psh (.int 10) 111 L st h) := go_eq gd_P0 d 93 109 L st h
theorem x93_111 (d : Nat) (L st : List Value) (h : gd_H) : go gd_P0 d 93 111 L st h = gs gd_P0 d 93 111 L (i_cV 94 1 1 114 L st h) := go_eq gd_P0 d 93 111 L st h
theorem x93_114 (d : Nat) (L st : List Value) (h : gd_H) : go gd_P0 d 93 114 L st h = gs gd_P0 d 93 114 L (i_msk [true, false, true, true, true, false] (i_cV 165 1 4 117) L st h) := go_eq gd_P0 d 93 114 L st h
theorem x93_117 (d : Nat) (L st : List Value) (h : gd_H) : go gd_P0 d 93 117 L st h = gs gd_P0 d 93 117 L (i_msk [true, false, true, true, true, false] (i_pop 118) L st h) := go_eq gd_P0 d 93 117 L st h
theorem x93_118 (d : Nat) (L st : List Value) (h : gd_H) : go gd_P0 d 93 118 L st h = gs gd_P0 d 93 118 L (i_msk [true, false, true, true, true, false] (i_ald 0 119) L st h) := go_eq gd_P0 d 93 118 L st h
theorem x93_119 (d : Nat) (L st : List Value) (h : gd_H) : go gd_P0 d 93 119 L st h = gs gd_P0 d 93 119 L (i_getR 1 4 122 L st h) := go_eq gd_P0 d 93 119 L st h
theorem x93_122 (d : Nat) (L st : List Value) (h : gd_H) : go gd_P0 d 93 122 L st h = gs gd_P0 d 93 122 L (i_cV 152 0 4 125 L st h) := go_eq gd_P0 d 93 122 L st h
theorem x93_125 (d : Nat) (L st : List Value) (h : gd_H) : go gd_P0 d 93 125 L st h = gs gd_P0 d 93 125 L (i_msk [true, false, true, true, true, false] (i_inc 4 1 128) L st h) := go_eq gd_P0 d 93 125 L st h
theorem x93_128 (d : Nat) (L st : List Value) (h : gd_H) : go gd_P0 d 93 128 L st h = gs gd_P0 d 93 128 L (i_goto 18 L st h) := go_eq gd_P0 d 93 128 L st h
theorem x93_131 (d : Nat) (L st : List Value) (h : gd_H) : go gd_P0 d 93 131 L st h = gs gd_P0 d 93 131 L (i_ald 0 132 L st h) := go_eq gd_P0 d 93 131 L st h
theorem x93_132 (d : Nat) (L st : List Value) (h : gd_H) : go gd_P0 d 93 132 L st h = gs gd_P0 d 93 132 L (i_getR 1 4 135 L st h) := go_eq gd_P0 d 93 132 L st h
theorem x93_135 (d : Nat) (L st : List Value) (h : gd_H) : go gd_P0 d 93 135 L st h = gs gd_P0 d 93 135 L (i_aret L st h) := go_eq gd_P0 d 93 135 L st h
theorem s93_0 (d : Nat) (h : gd_H) (v0 : Nat) (v1 : Int32) (v2 : Int32) (v3 : Int32) : go gd_P0 d 93 0 [.ref v0, .int v1, .int v2, .int v3, .null, .null] [] h =
    if gT h v0 = 1 then if gT h v0 = 1 then if gT h v0 = 1 then gc gd_P0 d 93 11 14 [.ref v0, .int v1, .int v2, .int v3, .null, .null] [] (run gd_P0 d 68 [.ref v0] (wI h (up1 (up1 (gI h) v0 21 v1) v0 22 0))) else none else none else none :=
  (x93_0 ..).trans ((x93_1 ..).trans ((x93_2 ..).trans ((gs_if ..).trans (ic9 ((x93_5 ..).trans ((x93_6 ..).trans ((x93_7 ..).trans ((gs_if ..).trans (ic9 ((x93_10 ..).trans ((x93_11 ..).trans ((gs_if ..).trans ((ia9 (by simp)).trans (ic9 rfl rfl))))) rfl))))) rfl))))
theorem s93_14 (d : Nat) (h : gd_H) (v0 : Nat) (w1 : Value) (v2 : Int32) (v3 : Int32) (w4 : Value) (w5 : Value) (z0 : Nat) : go gd_P0 d 93 14 [.ref v0, w1, .int v2, .int v3, w4, w5] [.ref z0] h =
    go gd_P0 d 93 18 [.ref v0, .null, .int v2, .int v3, .int 0, .null] [] h :=
  (x93_14 ..).trans ((x93_15 ..).trans ((x93_16 ..)))
theorem s93_18 (d : Nat) (h : gd_H) (v0 : Nat) (w1 : Value) (v2 : Int32) (v3 : Int32) (v4 : Int32) (w5 : Value) : go gd_P0 d 93 18 [.ref v0, w1, .int v2, .int v3, .int v4, w5] [] h =
    if v3 ≤ v4 then if gT h v0 = 1 then some (.inl (some (.ref (gR h v0 4))), h) else none else if gT h v0 = 1 then if gT h (gR h v0 15) = 6 then if (gI h (gR h v0 15) 7) ≤ 0 then go gd_P0 d 93 118 [.ref v0, .null, .int v2, .int v3, .int v4, .null] [] h else if gT h v0 = 1 then if gT h v0 = 1 then if gT h (gR h v0 15) = 6 then if gT h v0 = 1 then gc gd_P0 d 93 46 49 [.ref v0, .null, .int v2, .int v3, .int v4, .null] [.ref (gR h v0 4)] (run gd_P0 d 94 [.ref v0, .int (gI h (gR h v0 15) 7)] h) else none else none else none else none else none else none :=
  (x93_18 ..).trans ((x93_20 ..).trans ((x93_21 ..).trans ((gs_if ..).trans (ic9 ((x93_131 ..).trans ((x93_132 ..).trans ((gs_if ..).trans (ic9 ((x93_135 ..)) rfl)))) ((x93_24 ..).trans ((x93_25 ..).trans ((gs_if ..).trans (ic9 ((x93_28 ..).trans ((gs_if ..).trans (ic9 ((x93_31 ..).trans ((gs_if ..).trans (ic9 (rfl) ((x93_34 ..).trans ((x93_35 ..).trans ((gs_if ..).trans (ic9 ((x93_38 ..).trans ((x93_39 ..).trans ((x93_40 ..).trans ((gs_if ..).trans (ic9 ((x93_43 ..).trans ((gs_if ..).trans (ic9 ((x93_46 ..).trans ((gs_if ..).trans ((ia9 (by simp)).trans (ic9 rfl rfl)))) rfl))) rfl))))) rfl))))))) rfl))) rfl))))))))
theorem s93_49 (d : Nat) (h : gd_H) (v0 : Nat) (w1 : Value) (v2 : Int32) (v3 : Int32) (v4 : Int32) (w5 : Value) (z0 : Int32) (z1 : Nat) : go gd_P0 d 93 49 [.ref v0, w1, .int v2, .int v3, .int v4, w5] [.int z0, .ref z1] h =
    if gT h z1 = 4 then gc gd_P0 d 93 49 52 [.ref v0, .null, .int v2, .int v3, .int v4, .null] [] (run gd_P0 d 160 [.ref z1, .int z0] h) else none :=
  (x93_49 ..).trans ((gs_nif ..).trans ((ia9 (by simp)).trans (ic9 rfl rfl)))
theorem s93_52 (d : Nat) (h : gd_H) (v0 : Nat) (w1 : Value) (v2 : Int32) (v3 : Int32) (v4 : Int32) (w5 : Value) (z0 : Int32) : go gd_P0 d 93 52 [.ref v0, w1, .int v2, .int v3, .int v4, w5] [.int z0] h =
    if z0 = 0 then go gd_P0 d 93 65 [.ref v0, .null, .int v2, .int v3, .int v4, .null] [] h else if gT h v0 = 1 then if gT h v0 = 1 then go gd_P0 d 93 65 [.ref v0, .null, .int v2, .int v3, .int v4, .null] [] (wI h (up1 (gI h) v0 22 ((gI h v0 22) + 1))) else none else none :=
  (x93_52 ..).trans ((gs_nif ..).trans (ic9 (rfl) ((x93_55 ..).trans ((x93_56 ..).trans ((x93_57 ..).trans ((gs_if ..).trans (ic9 ((x93_60 ..).trans ((x93_61 ..).trans ((x93_62 ..).trans ((gs_if ..).trans (ic9 (rfl) rfl))))) rfl)))))))
theorem s93_65 (d : Nat) (h : gd_H) (v0 : Nat) (w1 : Value) (v2 : Int32) (v3 : Int32) (v4 : Int32) (w5 : Value) : go gd_P0 d 93 65 [.ref v0, w1, .int v2, .int v3, .int v4, w5] [] h =
    if gT h v0 = 1 then if gT h (gR h v0 15) = 6 then if gT h v0 = 1 then gc gd_P0 d 93 73 76 [.ref v0, .null, .int v2, .int v3, .int v4, .null] [] (run gd_P0 d 94 [.ref v0, .int (gI h (gR h v0 15) 7)] h) else none else none else none :=
  (x93_65 ..).trans ((x93_66 ..).trans ((x93_67 ..).trans ((gs_if ..).trans (ic9 ((x93_70 ..).trans ((gs_if ..).trans (ic9 ((x93_73 ..).trans ((gs_if ..).trans ((ia9 (by simp)).trans (ic9 rfl rfl)))) rfl))) rfl))))
theorem s93_76 (d : Nat) (h : gd_H) (v0 : Nat) (w1 : Value) (v2 : Int32) (v3 : Int32) (v4 : Int32) (w5 : Value) (z0 : Int32) : go gd_P0 d 93 76 [.ref v0, w1, .int v2, .int v3, .int v4, w5] [.int z0] h =
    if gT h v0 = 1 then if gT h v0 = 1 then gc gd_P0 d 93 87 90 [.ref v0, .null, .int v2, .int v3, .int v4, .int z0] [.int z0, .ref (gR h v0 4)] (run gd_P0 d 94 [.ref v0, .int 10] h) else none else none :=
  (x93_76 ..).trans ((x93_78 ..).trans ((x93_79 ..).trans ((gs_if ..).trans (ic9 ((x93_82 ..).trans ((x93_84 ..).trans ((x93_85 ..).trans ((x93_87 ..).trans ((gs_if ..).trans ((ia9 (by simp)).trans (ic9 rfl rfl))))))) rfl))))
theorem s93_90 (d : Nat) (h : gd_H) (v0 : Nat) (w1 : Value) (v2 : Int32) (v3 : Int32) (v4 : Int32) (w5 : Value) (z0 : Int32) (z1 : Int32) (z2 : Nat) : go gd_P0 d 93 90 [.ref v0, w1, .int v2, .int v3, .int v4, w5] [.int z0, .int z1, .ref z2] h =
    if gT h z2 = 4 then gc gd_P0 d 93 90 93 [.ref v0, .null, .int v2, .int v3, .int v4, .null] [] (run gd_P0 d 164 [.ref z2, .int z1, .int z0] h) else none :=
  (x93_90 ..).trans ((gs_nif ..).trans ((ia9 (by simp)).trans (ic9 rfl rfl)))
theorem s93_93 (d : Nat) (h : gd_H) (v0 : Nat) (w1 : Value) (v2 : Int32) (v3 : Int32) (v4 : Int32) (w5 : Value) (z0 : Int32) : go gd_P0 d 93 93 [.ref v0, w1, .int v2, .int v3, .int v4, w5] [.int z0] h =
    if gT h v0 = 1 then gc gd_P0 d 93 97 100 [.ref v0, .null, .int v2, .int v3, .int v4, .null] [] (run gd_P0 d 94 [.ref v0, .int 16] h) else none :=
  (x93_93 ..).trans ((x93_94 ..).trans ((x93_95 ..).trans ((x93_97 ..).trans ((gs_if ..).trans ((ia9 (by simp)).trans (ic9 rfl rfl))))))
theorem s93_100 (d : Nat) (h : gd_H) (v0 : Nat) (w1 : Value) (v2 : Int32) (v3 : Int32) (v4 : Int32) (w5 : Value) (z0 : Int32) : go gd_P0 d 93 100 [.ref v0, w1, .int v2, .int v3, .int v4, w5] [.int z0] h =
    if v2 ≤ z0 then go gd_P0 d 93 118 [.ref v0, .null, .int v2, .int v3, .int v4, .null] [] h else if gT h v0 = 1 then if gT h v0 = 1 then gc gd_P0 d 93 111 114 [.ref v0, .null, .int v2, .int v3, .int v4, .null] [.ref (gR h v0 4)] (run gd_P0 d 94 [.ref v0, .int 10] h) else none else none :=
  (x93_100 ..).trans ((x93_101 ..).trans ((gs_if ..).trans (ic9 (rfl) ((x93_104 ..).trans ((x93_105 ..).trans ((gs_if ..).trans (ic9 ((x93_108 ..).trans ((x93_109 ..).trans ((x93_111 ..).trans ((gs_if ..).trans ((ia9 (by simp)).trans (ic9 rfl rfl)))))) rfl)))))))
theorem s93_114 (d : Nat) (h : gd_H) (v0 : Nat) (w1 : Value) (v2 : Int32) (v3 : Int32) (v4 : Int32) (w5 : Value) (z0 : Int32) (z1 : Nat) : go gd_P0 d 93 114 [.ref v0, w1, .int v2, .int v3, .int v4, w5] [.int z0, .ref z1] h =
    if gT h z1 = 4 then gc gd_P0 d 93 114 117 [.ref v0, .null, .int v2, .int v3, .int v4, .null] [] (run gd_P0 d 165 [.ref z1, .int z0] h) else none :=
  (x93_114 ..).trans ((gs_nif ..).trans ((ia9 (by simp)).trans (ic9 rfl rfl)))
theorem s93_117 (d : Nat) (h : gd_H) (v0 : Nat) (w1 : Value) (v2 : Int32) (v3 : Int32) (v4 : Int32) (w5 : Value) (z0 : Int32) : go gd_P0 d 93 117 [.ref v0, w1, .int v2, .int v3, .int v4, w5] [.int z0] h =
    go gd_P0 d 93 118 [.ref v0, .null, .int v2, .int v3, .int v4, .null] [] h :=
  (x93_117 ..)
theorem s93_118 (d : Nat) (h : gd_H) (v0 : Nat) (w1 : Value) (v2 : Int32) (v3 : Int32) (v4 : Int32) (w5 : Value) : go gd_P0 d 93 118 [.ref v0, w1, .int v2, .int v3, .int v4, w5] [] h =
    if gT h v0 = 1 then if gT h (gR h v0 4) = 4 then gc gd_P0 d 93 122 125 [.ref v0, .null, .int v2, .int v3, .int v4, .null] [] (run gd_P0 d 152 [.ref (gR h v0 4)] h) else none else none :=
  (x93_118 ..).trans ((x93_119 ..).trans ((gs_if ..).trans (ic9 ((x93_122 ..).trans ((gs_if ..).trans ((ia9 (by simp)).trans (ic9 rfl rfl)))) rfl)))
theorem s93_125 (d : Nat) (h : gd_H) (v0 : Nat) (w1 : Value) (v2 : Int32) (v3 : Int32) (v4 : Int32) (w5 : Value) : go gd_P0 d 93 125 [.ref v0, w1, .int v2, .int v3, .int v4, w5] [] h =
    go gd_P0 d 93 18 [.ref v0, .null, .int v2, .int v3, .int (v4 + 1), .null] [] h :=
  (x93_125 ..).trans ((x93_128 ..))
theorem r93 (d : Nat) (h : gd_H) (v0 : Nat) (v1 : Int32) (v2 : Int32) (v3 : Int32) : run gd_P0 (d + 1) 93 [.ref v0, .int v1, .int v2, .int v3] h = go gd_P0 d 93 0 [.ref v0, .int v1, .int v2, .int v3, .null, .null] [] h := run_succ gd_P0 d 93 [.ref v0, .int v1, .int v2, .int v3] h (Nat.le_of_ble_eq_true rfl)
theorem x94_0 (d : Nat) (L st : List Value) (h : gd_H) : go gd_P0 d 94 0 L st h = gs gd_P0 d 94 0 L (i_ald 0 1 L st h) := go_eq gd_P0 d 94 0 L st h
theorem x94_1 (d : Nat) (L st : List Value) (h : gd_H) : go gd_P0 d 94 1 L st h = gs gd_P0 d 94 1 L (i_ald 0 2 L st h) := go_eq gd_P0 d 94 1 L st h
theorem x94_2 (d : Nat) (L st : List Value) (h : gd_H) : go gd_P0 d 94 2 L st h = gs gd_P0 d 94 2 L (i_getI 1 21 5 L st h) := go_eq gd_P0 d 94 2 L st h
theorem x94_5 (d : Nat) (L st : List Value) (h : gd_H) : go gd_P0 d 94 5 L st h = gs gd_P0 d 94 5 L (i_psh (.int 1103515245) 8 L st h) := go_eq gd_P0 d 94 5 L st h
theorem x94_8 (d : Nat) (L st : List Value) (h : gd_H) : go gd_P0 d 94 8 L st h = gs gd_P0 d 94 8 L (i_imul 9 L st h) := go_eq gd_P0 d 94 8 L st h
theorem x94_9 (d : Nat) (L st : List Value) (h : gd_H) : go gd_P0 d 94 9 L st h = gs gd_P0 d 94 9 L (i_psh (.int 12345) 12 L st h) := go_eq gd_P0 d 94 9 L st h
theorem x94_12 (d : Nat) (L st : List Value) (h : gd_H) : go gd_P0 d 94 12 L st h = gs gd_P0 d 94 12 L (i_iadd 13 L st h) := go_eq gd_P0 d 94 12 L st h
theorem x94_13 (d : Nat) (L st : List Value) (h : gd_H) : go gd_P0 d 94 13 L st h = gs gd_P0 d 94 13 L (i_putI 1 21 16 L st h) := go_eq gd_P0 d 94 13 L st h
theorem x94_16 (d : Nat) (L st : List Value) (h : gd_H) : go gd_P0 d 94 16 L st h = gs gd_P0 d 94 16 L (i_ald 0 17 L st h) := go_eq gd_P0 d 94 16 L st h
theorem x94_17 (d : Nat) (L st : List Value) (h : gd_H) : go gd_P0 d 94 17 L st h = gs gd_P0 d 94 17 L (i_getI 1 21 20 L st h) := go_eq gd_P0 d 94 17 L st h
theorem x94_20 (d : Nat) (L st : List Value) (h : gd_H) : go gd_P0 d 94 20 L st h = gs gd_P0 d 94 20 L (i_psh (.int 16) 22 L st h) := go_eq gd_P0 d 94 20 L st h
theorem x94_22 (d : Nat) (L st : List Value) (h : gd_H) : go gd_P0 d 94 22 L st h = gs gd_P0 d 94 22 L (i_ishr 23 L st h) := go_eq gd_P0 d 94 22 L st h
theorem x94_23 (d : Nat) (L st : List Value) (h : gd_H) : go gd_P0 d 94 23 L st h = gs gd_P0 d 94 23 L (i_psh (.int 32767) 26 L st h) := go_eq gd_P0 d 94 23 L st h
theorem x94_26 (d : Nat) (L st : List Value) (h : gd_H) : go gd_P0 d 94 26 L st h = gs gd_P0 d 94 26 L (i_iand 27 L st h) := go_eq gd_P0 d 94 26 L st h
theorem x94_27 (d : Nat) (L st : List Value) (h : gd_H) : go gd_P0 d 94 27 L st h = gs gd_P0 d 94 27 L (i_ild 1 28 L st h) := go_eq gd_P0 d 94 27 L st h
theorem x94_28 (d : Nat) (L st : List Value) (h : gd_H) : go gd_P0 d 94 28 L st h = gs gd_P0 d 94 28 L (i_irem 29 L st h) := go_eq gd_P0 d 94 28 L st h
theorem x94_29 (d : Nat) (L st : List Value) (h : gd_H) : go gd_P0 d 94 29 L st h = gs gd_P0 d 94 29 L (i_iret L st h) := go_eq gd_P0 d 94 29 L st h
theorem s94_0 (d : Nat) (h : gd_H) (v0 : Nat) (v1 : Int32) : go gd_P0 d 94 0 [.ref v0, .int v1] [] h =
    if gT h v0 = 1 then if gT h v0 = 1 then if gT h v0 = 1 then if v1 = 0 then none else some (.inl (some (.int (((((up1 (gI h) v0 21 (((gI h v0 21) * 1103515245) + 12345)) v0 21) >>> ((16 : Int32) &&& 31)) &&& (32767 : Int32)) - ((((up1 (gI h) v0 21 (((gI h v0 21) * 1103515245) + 12345)) v0 21) >>> ((16 : Int32) &&& 31)) &&& (32767 : Int32)) / v1 * v1))), (wI h (up1 (gI h) v0 21 (((gI h v0 21) * 1103515245) + 12345)))) else none else none else none :=
  (x94_0 ..).trans ((x94_1 ..).trans ((x94_2 ..).trans ((gs_if ..).trans (ic9 ((x94_5 ..).trans ((x94_8 ..).trans ((x94_9 ..).trans ((x94_12 ..).trans ((x94_13 ..).trans ((gs_if ..).trans (ic9 ((x94_16 ..).trans ((x94_17 ..).trans ((gs_if ..).trans (ic9 ((x94_20 ..).trans ((x94_22 ..).trans ((x94_23 ..).trans ((x94_26 ..).trans ((x94_27 ..).trans ((x94_28 ..).trans ((gs_if ..).trans (ic9 rfl ((x94_29 ..)))))))))) rfl)))) rfl))))))) rfl))))
theorem r94 (d : Nat) (h : gd_H) (v0 : Nat) (v1 : Int32) : run gd_P0 (d + 1) 94 [.ref v0, .int v1] h = go gd_P0 d 94 0 [.ref v0, .int v1] [] h := run_succ gd_P0 d 94 [.ref v0, .int v1] h (Nat.le_of_ble_eq_true rfl)
theorem x95_0 (d : Nat) (L st : List Value) (h : gd_H) : go gd_P0 d 95 0 L st h = gs gd_P0 d 95 0 L (i_ald 0 1 L st h) := go_eq gd_P0 d 95 0 L st h
theorem x95_1 (d : Nat) (L st : List Value) (h : gd_H) : go gd_P0 d 95 1 L st h = gs gd_P0 d 95 1 L (i_ild 2 2 L st h) := go_eq gd_P0 d 95 1 L st h
theorem x95_2 (d : Nat) (L st : List Value) (h : gd_H) : go gd_P0 d 95 2 L st h = gs gd_P0 d 95 2 L (i_psh (.int 1) 3 L st h) := go_eq gd_P0 d 95 2 L st h
theorem x95_3 (d : Nat) (L st : List Value) (h : gd_H) : go gd_P0 d 95 3 L st h = gs gd_P0 d 95 3 L (i_psh (.int 20) 5 L st h) := go_eq gd_P0 d 95 3 L st h
theorem x95_5 (d : Nat) (L st : List Value) (h : gd_H) : go gd_P0 d 95 5 L st h = gs gd_P0 d 95 5 L (i_cV 53 3 1 8 L st h) := go_eq gd_P0 d 95 5 L st h
theorem x95_8 (d : Nat) (L st : List Value) (h : gd_H) : go gd_P0 d 95 8 L st h = gs gd_P0 d 95 8 L (i_msk [true, true, true, true, true, true, true, false, false, false, false, false] (i_ald 0 9) L st h) := go_eq gd_P0 d 95 8 L st h
theorem x95_9 (d : Nat) (L st : List Value) (h : gd_H) : go gd_P0 d 95 9 L st h = gs gd_P0 d 95 9 L (i_ild 3 10 L st h) := go_eq gd_P0 d 95 9 L st h
theorem x95_10 (d : Nat) (L st : List Value) (h : gd_H) : go gd_P0 d 95 10 L st h = gs gd_P0 d 95 10 L (i_ild 4 12 L st h) := go_eq gd_P0 d 95 10 L st h
theorem x95_12 (d : Nat) (L st : List Value) (h : gd_H) : go gd_P0 d 95 12 L st h = gs gd_P0 d 95 12 L (i_cV 92 2 1 15 L st h) := go_eq gd_P0 d 95 12 L st h
theorem x95_15 (d : Nat) (L st : List Value) (h : gd_H) : go gd_P0 d 95 15 L st h = gs gd_P0 d 95 15 L (i_msk [true, true, true, true, true, true, true, false, false, false, false, false] (i_ald 0 16) L st h) := go_eq gd_P0 d 95 15 L st h
theorem x95_16 (d : Nat) (L st : List Value) (h : gd_H) : go gd_P0 d 95 16 L st h = gs gd_P0 d 95 16 L (i_ild 5 18 L st h) := go_eq gd_P0 d 95 16 L st h
theorem x95_18 (d : Nat) (L st : List Value) (h : gd_H) : go gd_P0 d 95 18 L st h = gs gd_P0 d 95 18 L (i_psh (.int 0) 19 L st h) := go_eq gd_P0 d 95 18 L st h
theorem x95_19 (d : Nat) (L st : List Value) (h : gd_H) : go gd_P0 d 95 19 L st h = gs gd_P0 d 95 19 L (i_psh (.int 2) 20 L st h) := go_eq gd_P0 d 95 19 L st h
theorem x95_20 (d : Nat) (L st : List Value) (h : gd_H) : go gd_P0 d 95 20 L st h = gs gd_P0 d 95 20 L (i_cV 53 3 1 23 L st h) := go_eq gd_P0 d 95 20 L st h
theorem x95_23 (d : Nat) (L st : List Value) (h : gd_H) : go gd_P0 d 95 23 L st h = gs gd_P0 d 95 23 L (i_msk [true, true, true, true, true, true, true, false, false, false, false, false] (i_ald 0 24) L st h) := go_eq gd_P0 d 95 23 L st h
theorem x95_24 (d : Nat) (L st : List Value) (h : gd_H) : go gd_P0 d 95 24 L st h = gs gd_P0 d 95 24 L (i_ild 6 26 L st h) := go_eq gd_P0 d 95 24 L st h
theorem x95_26 (d : Nat) (L st : List Value) (h : gd_H) : go gd_P0 d 95 26 L st h = gs gd_P0 d 95 26 L (i_psh (.int 0) 27 L st h) := go_eq gd_P0 d 95 26 L st h
theorem x95_27 (d : Nat) (L st : List Value) (h : gd_H) : go gd_P0 d 95 27 L st h = gs gd_P0 d 95 27 L (i_ald 0 28 L st h) := go_eq gd_P0 d 95 27 L st h
theorem x95_28 (d : Nat) (L st : List Value) (h : gd_H) : go gd_P0 d 95 28 L st h = gs gd_P0 d 95 28 L (i_getR 1 15 31 L st h) := go_eq gd_P0 d 95 28 L st h
theorem x95_31 (d : Nat) (L st : List Value) (h : gd_H) : go gd_P0 d 95 31 L st h = gs gd_P0 d 95 31 L (i_getI 6 7 34 L st h) := go_eq gd_P0 d 95 31 L st h
theorem x95_34 (d : Nat) (L st : List Value) (h : gd_H) : go gd_P0 d 95 34 L st h = gs gd_P0 d 95 34 L (i_psh (.int 1) 35 L st h) := go_eq gd_P0 d 95 34 L st h
theorem x95_35 (d : Nat) (L st : List Value) (h : gd_H) : go gd_P0 d 95 35 L st h = gs gd_P0 d 95 35 L (i_isub 36 L st h) := go_eq gd_P0 d 95 35 L st h
theorem x95_36 (d : Nat) (L st : List Value) (h : gd_H) : go gd_P0 d 95 36 L st h = gs gd_P0 d 95 36 L (i_cV 53 3 1 39 L st h) := go_eq gd_P0 d 95 36 L st h
theorem x95_39 (d : Nat) (L st : List Value) (h : gd_H) : go gd_P0 d 95 39 L st h = gs gd_P0 d 95 39 L (i_msk [true, true, true, true, true, true, true, false, false, false, false, false] (i_psh (.int 0) 40) L st h) := go_eq gd_P0 d 95 39 L st h
theorem x95_40 (d : Nat) (L st : List Value) (h : gd_H) : go gd_P0 d 95 40 L st h = gs gd_P0 d 95 40 L (i_ist 7 42 L st h) := go_eq gd_P0 d 95 40 L st h
theorem x95_42 (d : Nat) (L st : List Value) (h : gd_H) : go gd_P0 d 95 42 L st h = gs gd_P0 d 95 42 L (i_psh (.int 0) 43 L st h) := go_eq gd_P0 d 95 42 L st h
theorem x95_43 (d : Nat) (L st : List Value) (h : gd_H) : go gd_P0 d 95 43 L st h = gs gd_P0 d 95 43 L (i_ist 8 45 L st h) := go_eq gd_P0 d 95 43 L st h
theorem x95_45 (d : Nat) (L st : List Value) (h : gd_H) : go gd_P0 d 95 45 L st h = gs gd_P0 d 95 45 L (i_psh (.int 0) 46 L st h) := go_eq gd_P0 d 95 45 L st h
theorem x95_46 (d : Nat) (L st : List Value) (h : gd_H) : go gd_P0 d 95 46 L st h = gs gd_P0 d 95 46 L (i_ist 9 48 L st h) := go_eq gd_P0 d 95 46 L st h
theorem x95_48 (d : Nat) (L st : List Value) (h : gd_H) : go gd_P0 d 95 48 L st h = gs gd_P0 d 95 48 L (i_psh (.int 0) 49 L st h) := go_eq gd_P0 d 95 48 L st h
theorem x95_49 (d : Nat) (L st : List Value) (h : gd_H) : go gd_P0 d 95 49 L st h = gs gd_P0 d 95 49 L (i_ist 10 51 L st h) := go_eq gd_P0 d 95 49 L st h
theorem x95_51 (d : Nat) (L st : List Value) (h : gd_H) : go gd_P0 d 95 51 L st h = gs gd_P0 d 95 51 L (i_msk [true, true, true, true, true, true, true, true, true, true, true, false] (i_ild 10 53) L st h) := go_eq gd_P0 d 95 51 L st h
theorem x95_53 (d : Nat) (L st : List Value) (h : gd_H) : go gd_P0 d 95 53 L st h = gs gd_P0 d 95 53 L (i_ild 2 54 L st h) := go_eq gd_P0 d 95 53 L st h
theorem x95_54 (d : Nat) (L st : List Value) (h : gd_H) : go gd_P0 d 95 54 L st h = gs gd_P0 d 95 54 L (i_icge 126 57 L st h) := go_eq gd_P0 d 95 54 L st h
theorem x95_57 (d : Nat) (L st : List Value) (h : gd_H) : go gd_P0 d 95 57 L st h = gs gd_P0 d 95 57 L (i_ald 0 58 L st h) := go_eq gd_P0 d 95 57 L st h
theorem x95_58 (d : Nat) (L st : List Value) (h : gd_H) : go gd_P0 d 95 58 L st h = gs gd_P0 d 95 58 L (i_ild 1 59 L st h) := go_eq gd_P0 d 95 58 L st h
theorem x95_59 (d : Nat) (L st : List Value) (h : gd_H) : go gd_P0 d 95 59 L st h = gs gd_P0 d 95 59 L (i_ild 10 61 L st h) := go_eq gd_P0 d 95 59 L st h
theorem x95_61 (d : Nat) (L st : List Value) (h : gd_H) : go gd_P0 d 95 61 L st h = gs gd_P0 d 95 61 L (i_iadd 62 L st h) := go_eq gd_P0 d 95 61 L st h
theorem x95_62 (d : Nat) (L st : List Value) (h : gd_H) : go gd_P0 d 95 62 L st h = gs gd_P0 d 95 62 L (i_ild 3 63 L st h) := go_eq gd_P0 d 95 62 L st h
theorem x95_63 (d : Nat) (L st : List Value) (h : gd_H) : go gd_P0 d 95 63 L st h = gs gd_P0 d 95 63 L (i_ild 4 65 L st h) := go_eq gd_P0 d 95 63 L st h
theorem x95_65 (d : Nat) (L st : List Value) (h : gd_H) : go gd_P0 d 95 65 L st h = gs gd_P0 d 95 65 L (i_cV 93 3 1 68 L st h) := go_eq gd_P0 d 95 65 L st h
theorem x95_68 (d : Nat) (L st : List Value) (h : gd_H) : go gd_P0 d 95 68 L st h = gs gd_P0 d 95 68 L (i_msk [true, true, true, true, true, true, true, true, true, true, true, false] (i_ast 11 70) L st h) := go_eq gd_P0 d 95 68 L st h
theorem x95_70 (d : Nat) (L st : List Value) (h : gd_H) : go gd_P0 d 95 70 L st h = gs gd_P0 d 95 70 L (i_ild 10 72 L st h) := go_eq gd_P0 d 95 70 L st h
theorem x95_72 (d : Nat) (L st : List Value) (h : gd_H) : go gd_P0 d 95 72 L st h = gs gd_P0 d 95 72 L (i_ifne 83 75 L st h) := go_eq gd_P0 d 95 72 L st h
theorem x95_75 (d : Nat) (L st : List Value) (h : gd_H) : go gd_P0 d 95 75 L st h = gs gd_P0 d 95 75 L (i_ald 11 77 L st h) := go_eq gd_P0 d 95 75 L st h
theorem x95_77 (d : Nat) (L st : List Value) (h : gd_H) : go gd_P0 d 95 77 L st h = gs gd_P0 d 95 77 L (i_cV 158 0 4 80 L st h) := go_eq gd_P0 d 95 77 L st h
theorem x95_80 (d : Nat) (L st : List Value) (h : gd_H) : go gd_P0 d 95 80 L st h = gs gd_P0 d 95 80 L (i_msk [true, true, true, true, true, true, true, false, true, true, true, true] (i_goto 93) L st h) := go_eq gd_P0 d 95 80 L st h
theorem x95_83 (d : Nat) (L st : List Value) (h : gd_H) : go gd_P0 d 95 83 L st h = gs gd_P0 d 95 83 L (i_ild 7 85 L st h) := go_eq gd_P0 d 95 83 L st h
theorem x95_85 (d : Nat) (L st : List Value) (h : gd_H) : go gd_P0 d 95 85 L st h = gs gd_P0 d 95 85 L (i_ald 11 87 L st h) := go_eq gd_P0 d 95 85 L st h
theorem x95_87 (d : Nat) (L st : List Value) (h : gd_H) : go gd_P0 d 95 87 L st h = gs gd_P0 d 95 87 L (i_cV 158 0 4 90 L st h) := go_eq gd_P0 d 95 87 L st h
theorem x95_90 (d : Nat) (L st : List Value) (h : gd_H) : go gd_P0 d 95 90 L st h = gs gd_P0 d 95 90 L (i_msk [true, true, true, true, true, true, true, false, true, true, true, true] (i_mmin 93) L st h) := go_eq gd_P0 d 95 90 L st h
theorem x95_93 (d : Nat) (L st : List Value) (h : gd_H) : go gd_P0 d 95 93 L st h = gs gd_P0 d 95 93 L (i_msk [true, true, true, true, true, true, true, false, true, true, true, true] (i_ist 7 95) L st h) := go_eq gd_P0 d 95 93 L st h
theorem x95_95 (d : Nat) (L st : List Value) (h : gd_H) : go gd_P0 d 95 95 L st h = gs gd_P0 d 95 95 L (i_ild 8 97 L st h) := go_eq gd_P0 d 95 95 L st h
theorem x95_97 (d : Nat) (L st : List Value) (h : gd_H) : go gd_P0 d 95 97 L st h = gs gd_P0 d 95 97 L (i_ald 11 99 L st h) := go_eq gd_P0 d 95 97 L st h
theorem x95_99 (d : Nat) (L st : List Value) (h : gd_H) : go gd_P0 d 95 99 L st h = gs gd_P0 d 95 99 L (i_cV 158 0 4 102 L st h) := go_eq gd_P0 d 95 99 L st h
theorem x95_102 (d : Nat) (L st : List Value) (h : gd_H) : go gd_P0 d 95 102 L st h = gs gd_P0 d 95 102 L (i_msk [true, true, true, true, true, true, true, true, false, true, true, true] (i_mmax 105) L st h) := go_eq gd_P0 d 95 102 L st h
theorem x95_105 (d : Nat) (L st : List Value) (h : gd_H) : go gd_P0 d 95 105 L st h = gs gd_P0 d 95 105 L (i_msk [true, true, true, true, true, true, true, true, false, true, true, true] (i_ist 8 107) L st h) := go_eq gd_P0 d 95 105 L st h
theorem x95_107 (d : Nat) (L st : List Value) (h : gd_H) : go gd_P0 d 95 107 L st h = gs gd_P0 d 95 107 L (i_ald 11 109 L st h) := go_eq gd_P0 d 95 107 L st h
theorem x95_109 (d : Nat) (L st : List Value) (h : gd_H) : go gd_P0 d 95 109 L st h = gs gd_P0 d 95 109 L (i_ild 6 111 L st h) := go_eq gd_P0 d 95 109 L st h
theorem x95_111 (d : Nat) (L st : List Value) (h : gd_H) : go gd_P0 d 95 111 L st h = gs gd_P0 d 95 111 L (i_cV 155 1 4 114 L st h) := go_eq gd_P0 d 95 111 L st h
theorem x95_114 (d : Nat) (L st : List Value) (h : gd_H) : go gd_P0 d 95 114 L st h = gs gd_P0 d 95 114 L (i_msk [true, true, true, true, true, true, true, true, true, true, true, false] (i_ifle 120 117) L st h) := go_eq gd_P0 d 95 114 L st h
theorem x95_117 (d : Nat) (L st : List Value) (h : gd_H) : go gd_P0 d 95 117 L st h = gs gd_P0 d 95 117 L (i_inc 9 1 120 L st h) := go_eq gd_P0 d 95 117 L st h
theorem x95_120 (d : Nat) (L st : List Value) (h : gd_H) : go gd_P0 d 95 120 L st h = gs gd_P0 d 95 120 L (i_msk [true, true, true, true, true, true, true, true, true, true, true, false] (i_inc 10 1 123) L st h) := go_eq gd_P0 d 95 120 L st h
theorem x95_123 (d : Nat) (L st : List Value) (h : gd_H) : go gd_P0 d 95 123 L st h = gs gd_P0 d 95 123 L (i_goto 51 L st h) := go_eq gd_P0 d 95 123 L st h
theorem x95_126 (d : Nat) (L st : List Value) (h : gd_H) : go gd_P0 d 95 126 L st h = gs gd_P0 d 95 126 L (i_ild 5 128 L st h) := go_eq gd_P0 d 95 126 L st h
theorem x95_128 (d : Nat) (L st : List Value) (h : gd_H) : go gd_P0 d 95 128 L st h = gs gd_P0 d 95 128 L (i_ifne 136 131 L st h) := go_eq gd_P0 d 95 128 L st h
theorem x95_131 (d : Nat) (L st : List Value) (h : gd_H) : go gd_P0 d 95 131 L st h = gs gd_P0 d 95 131 L (i_ild 7 133 L st h) := go_eq gd_P0 d 95 131 L st h
theorem x95_133 (d : Nat) (L st : List Value) (h : gd_H) : go gd_P0 d 95 133 L st h = gs gd_P0 d 95 133 L (i_goto 149 L st h) := go_eq gd_P0 d 95 133 L st h
theorem x95_136 (d : Nat) (L st : List Value) (h : gd_H) : go gd_P0 d 95 136 L st h = gs gd_P0 d 95 136 L (i_ild 5 138 L st h) := go_eq gd_P0 d 95 136 L st h
theorem x95_138 (d : Nat) (L st : List Value) (h : gd_H) : go gd_P0 d 95 138 L st h = gs gd_P0 d 95 138 L (i_psh (.int 1) 139 L st h) := go_eq gd_P0 d 95 138 L st h
theorem x95_139 (d : Nat) (L st : List Value) (h : gd_H) : go gd_P0 d 95 139 L st h = gs gd_P0 d 95 139 L (i_icne 147 142 L st h) := go_eq gd_P0 d 95 139 L st h
theorem x95_142 (d : Nat) (L st : List Value) (h : gd_H) : go gd_P0 d 95 142 L st h = gs gd_P0 d 95 142 L (i_ild 8 144 L st h) := go_eq gd_P0 d 95 142 L st h
theorem x95_144 (d : Nat) (L st : List Value) (h : gd_H) : go gd_P0 d 95 144 L st h = gs gd_P0 d 95 144 L (i_goto 149 L st h) := go_eq gd_P0 d 95 144 L st h
theorem x95_147 (d : Nat) (L st : List Value) (h : gd_H) : go gd_P0 d 95 147 L st h = gs gd_P0 d 95 147 L (i_ild 9 149 L st h) := go_eq gd_P0 d 95 147 L st h
theorem x95_149 (d : Nat) (L st : List Value) (h : gd_H) : go gd_P0 d 95 149 L st h = gs gd_P0 d 95 149 L (i_msk [false, false, false, false, false, false, false, false, false, false, false, false] (i_iret) L st h) := go_eq gd_P0 d 95 149 L st h
theorem s95_0 (d : Nat) (h : gd_H) (v0 : Nat) (v1 : Int32) (v2 : Int32) (v3 : Int32) (v4 : Int32) (v5 : Int32) (v6 : Int32) : go gd_P0 d 95 0 [.ref v0, .int v1, .int v2, .int v3, .int v4, .int v5, .int v6, .null, .null, .null, .null, .null] [] h =
    if gT h v0 = 1 then gc gd_P0 d 95 5 8 [.ref v0, .int v1, .int v2, .int v3, .int v4, .int v5, .int v6, .null, .null, .null, .null, .null] [] (run gd_P0 d 53 [.ref v0, .int v2, .int 1, .int 20] h) else none :=
  (x95_0 ..).trans ((x95_1 ..).trans ((x95_2 ..).trans ((x95_3 ..).trans ((x95_5 ..).trans ((gs_if ..).trans ((ia9 (by simp)).trans (ic9 rfl rfl)))))))
theorem s95_8 (d : Nat) (h : gd_H) (v0 : Nat) (v1 : Int32) (v2 : Int32) (v3 : Int32) (v4 : Int32) (v5 : Int32) (v6 : Int32) (w7 : Value) (w8 : Value) (w9 : Value) (w10 : Value) (w11 : Value) : go gd_P0 d 95 8 [.ref v0, .int v1, .int v2, .int v3, .int v4, .int v5, .int v6, w7, w8, w9, w10, w11] [] h =
    if gT h v0 = 1 then gc gd_P0 d 95 12 15 [.ref v0, .int v1, .int v2, .int v3, .int v4, .int v5, .int v6, .null, .null, .null, .null, .null] [] (run gd_P0 d 92 [.ref v0, .int v3, .int v4] h) else none :=
  (x95_8 ..).trans ((x95_9 ..).trans ((x95_10 ..).trans ((x95_12 ..).trans ((gs_if ..).trans ((ia9 (by simp)).trans (ic9 rfl rfl))))))
theorem s95_15 (d : Nat) (h : gd_H) (v0 : Nat) (v1 : Int32) (v2 : Int32) (v3 : Int32) (v4 : Int32) (v5 : Int32) (v6 : Int32) (w7 : Value) (w8 : Value) (w9 : Value) (w10 : Value) (w11 : Value) : go gd_P0 d 95 15 [.ref v0, .int v1, .int v2, .int v3, .int v4, .int v5, .int v6, w7, w8, w9, w10, w11] [] h =
    if gT h v0 = 1 then gc gd_P0 d 95 20 23 [.ref v0, .int v1, .int v2, .int v3, .int v4, .int v5, .int v6, .null, .null, .null, .null, .null] [] (run gd_P0 d 53 [.ref v0, .int v5, .int 0, .int 2] h) else none :=
  (x95_15 ..).trans ((x95_16 ..).trans ((x95_18 ..).trans ((x95_19 ..).trans ((x95_20 ..).trans ((gs_if ..).trans ((ia9 (by simp)).trans (ic9 rfl rfl)))))))
theorem s95_23 (d : Nat) (h : gd_H) (v0 : Nat) (v1 : Int32) (v2 : Int32) (v3 : Int32) (v4 : Int32) (v5 : Int32) (v6 : Int32) (w7 : Value) (w8 : Value) (w9 : Value) (w10 : Value) (w11 : Value) : go gd_P0 d 95 23 [.ref v0, .int v1, .int v2, .int v3, .int v4, .int v5, .int v6, w7, w8, w9, w10, w11] [] h =
    if gT h v0 = 1 then if gT h (gR h v0 15) = 6 then if gT h v0 = 1 then gc gd_P0 d 95 36 39 [.ref v0, .int v1, .int v2, .int v3, .int v4, .int v5, .int v6, .null, .null, .null, .null, .null] [] (run gd_P0 d 53 [.ref v0, .int v6, .int 0, .int ((gI h (gR h v0 15) 7) - 1)] h) else none else none else none :=
  (x95_23 ..).trans ((x95_24 ..).trans ((x95_26 ..).trans ((x95_27 ..).trans ((x95_28 ..).trans ((gs_if ..).trans (ic9 ((x95_31 ..).trans ((gs_if ..).trans (ic9 ((x95_34 ..).trans ((x95_35 ..).trans ((x95_36 ..).trans ((gs_if ..).trans ((ia9 (by simp)).trans (ic9 rfl rfl)))))) rfl))) rfl))))))
theorem s95_39 (d : Nat) (h : gd_H) (v0 : Nat) (v1 : Int32) (v2 : Int32) (v3 : Int32) (v4 : Int32) (v5 : Int32) (v6 : Int32) (w7 : Value) (w8 : Value) (w9 : Value) (w10 : Value) (w11 : Value) : go gd_P0 d 95 39 [.ref v0, .int v1, .int v2, .int v3, .int v4, .int v5, .int v6, w7, w8, w9, w10, w11] [] h =
    go gd_P0 d 95 51 [.ref v0, .int v1, .int v2, .int v3, .int v4, .int v5, .int v6, .int 0, .int 0, .int 0, .int 0, .null] [] h :=
  (x95_39 ..).trans ((x95_40 ..).trans ((x95_42 ..).trans ((x95_43 ..).trans ((x95_45 ..).trans ((x95_46 ..).trans ((x95_48 ..).trans ((x95_49 ..))))))))
theorem s95_51 (d : Nat) (h : gd_H) (v0 : Nat) (v1 : Int32) (v2 : Int32) (v3 : Int32) (v4 : Int32) (v5 : Int32) (v6 : Int32) (v7 : Int32) (v8 : Int32) (v9 : Int32) (v10 : Int32) (w11 : Value) : go gd_P0 d 95 51 [.ref v0, .int v1, .int v2, .int v3, .int v4, .int v5, .int v6, .int v7, .int v8, .int v9, .int v10, w11] [] h =
    if v2 ≤ v10 then if v5 = 0 then go gd_P0 d 95 149 [.ref v0, .int v1, .int v2, .int v3, .int v4, .int v5, .int v6, .int v7, .int v8, .int v9, .int v10, .null] [.int v7] h else if v5 = 1 then go gd_P0 d 95 149 [.ref v0, .int v1, .int v2, .int v3, .int v4, .int v5, .int v6, .int v7, .int v8, .int v9, .int v10, .null] [.int v8] h else go gd_P0 d 95 149 [.ref v0, .int v1, .int v2, .int v3, .int v4, .int v5, .int v6, .int v7, .int v8, .int v9, .int v10, .null] [.int v9] h else if gT h v0 = 1 then gc gd_P0 d 95 65 68 [.ref v0, .int v1, .int v2, .int v3, .int v4, .int v5, .int v6, .int v7, .int v8, .int v9, .int v10, .null] [] (run gd_P0 d 93 [.ref v0, .int (v1 + v10), .int v3, .int v4] h) else none :=
  (x95_51 ..).trans ((x95_53 ..).trans ((x95_54 ..).trans ((gs_if ..).trans (ic9 ((x95_126 ..).trans ((x95_128 ..).trans ((gs_if ..).trans (ic9 ((x95_131 ..).trans ((x95_133 ..))) ((x95_136 ..).trans ((x95_138 ..).trans ((x95_139 ..).trans ((gs_if ..).trans (ic9 ((x95_142 ..).trans ((x95_144 ..))) ((x95_147 ..))))))))))) ((x95_57 ..).trans ((x95_58 ..).trans ((x95_59 ..).trans ((x95_61 ..).trans ((x95_62 ..).trans ((x95_63 ..).trans ((x95_65 ..).trans ((gs_if ..).trans ((ia9 (by simp)).trans (ic9 rfl rfl))))))))))))))
theorem s95_68 (d : Nat) (h : gd_H) (v0 : Nat) (v1 : Int32) (v2 : Int32) (v3 : Int32) (v4 : Int32) (v5 : Int32) (v6 : Int32) (v7 : Int32) (v8 : Int32) (v9 : Int32) (v10 : Int32) (w11 : Value) (z0 : Nat) : go gd_P0 d 95 68 [.ref v0, .int v1, .int v2, .int v3, .int v4, .int v5, .int v6, .int v7, .int v8, .int v9, .int v10, w11] [.ref z0] h =
    if v10 = 0 then if gT h z0 = 4 then gc gd_P0 d 95 77 80 [.ref v0, .int v1, .int v2, .int v3, .int v4, .int v5, .int v6, .int v7, .int v8, .int v9, .int v10, .ref z0] [] (run gd_P0 d 158 [.ref z0] h) else none else if gT h z0 = 4 then gc gd_P0 d 95 87 90 [.ref v0, .int v1, .int v2, .int v3, .int v4, .int v5, .int v6, .int v7, .int v8, .int v9, .int v10, .ref z0] [.int v7] (run gd_P0 d 158 [.ref z0] h) else none :=
  (x95_68 ..).trans ((x95_70 ..).trans ((x95_72 ..).trans ((gs_if ..).trans (ic9 ((x95_75 ..).trans ((x95_77 ..).trans ((gs_if ..).trans ((ia9 (by simp)).trans (ic9 rfl rfl))))) ((x95_83 ..).trans ((x95_85 ..).trans ((x95_87 ..).trans ((gs_if ..).trans ((ia9 (by simp)).trans (ic9 rfl rfl))))))))))
theorem s95_80 (d : Nat) (h : gd_H) (v0 : Nat) (v1 : Int32) (v2 : Int32) (v3 : Int32) (v4 : Int32) (v5 : Int32) (v6 : Int32) (w7 : Value) (v8 : Int32) (v9 : Int32) (v10 : Int32) (v11 : Nat) (z0 : Int32) : go gd_P0 d 95 80 [.ref v0, .int v1, .int v2, .int v3, .int v4, .int v5, .int v6, w7, .int v8, .int v9, .int v10, .ref v11] [.int z0] h =
    go gd_P0 d 95 93 [.ref v0, .int v1, .int v2, .int v3, .int v4, .int v5, .int v6, .null, .int v8, .int v9, .int v10, .ref v11] [.int z0] h :=
  (x95_80 ..)
theorem s95_90 (d : Nat) (h : gd_H) (v0 : Nat) (v1 : Int32) (v2 : Int32) (v3 : Int32) (v4 : Int32) (v5 : Int32) (v6 : Int32) (w7 : Value) (v8 : Int32) (v9 : Int32) (v10 : Int32) (v11 : Nat) (z0 : Int32) (z1 : Int32) : go gd_P0 d 95 90 [.ref v0, .int v1, .int v2, .int v3, .int v4, .int v5, .int v6, w7, .int v8, .int v9, .int v10, .ref v11] [.int z0, .int z1] h =
    go gd_P0 d 95 93 [.ref v0, .int v1, .int v2, .int v3, .int v4, .int v5, .int v6, .null, .int v8, .int v9, .int v10, .ref v11] [.int (if z0 < z1 then z0 else z1)] h :=
  (x95_90 ..)
theorem s95_93 (d : Nat) (h : gd_H) (v0 : Nat) (v1 : Int32) (v2 : Int32) (v3 : Int32) (v4 : Int32) (v5 : Int32) (v6 : Int32) (w7 : Value) (v8 : Int32) (v9 : Int32) (v10 : Int32) (v11 : Nat) (z0 : Int32) : go gd_P0 d 95 93 [.ref v0, .int v1, .int v2, .int v3, .int v4, .int v5, .int v6, w7, .int v8, .int v9, .int v10, .ref v11] [.int z0] h =
    if gT h v11 = 4 then gc gd_P0 d 95 99 102 [.ref v0, .int v1, .int v2, .int v3, .int v4, .int v5, .int v6, .int z0, .int v8, .int v9, .int v10, .ref v11] [.int v8] (run gd_P0 d 158 [.ref v11] h) else none :=
  (x95_93 ..).trans ((x95_95 ..).trans ((x95_97 ..).trans ((x95_99 ..).trans ((gs_if ..).trans ((ia9 (by simp)).trans (ic9 rfl rfl))))))
theorem s95_102 (d : Nat) (h : gd_H) (v0 : Nat) (v1 : Int32) (v2 : Int32) (v3 : Int32) (v4 : Int32) (v5 : Int32) (v6 : Int32) (v7 : Int32) (w8 : Value) (v9 : Int32) (v10 : Int32) (v11 : Nat) (z0 : Int32) (z1 : Int32) : go gd_P0 d 95 102 [.ref v0, .int v1, .int v2, .int v3, .int v4, .int v5, .int v6, .int v7, w8, .int v9, .int v10, .ref v11] [.int z0, .int z1] h =
    go gd_P0 d 95 105 [.ref v0, .int v1, .int v2, .int v3, .int v4, .int v5, .int v6, .int v7, .null, .int v9, .int v10, .ref v11] [.int (if z1 < z0 then z0 else z1)] h :=
  (x95_102 ..)
theorem s95_105 (d : Nat) (h : gd_H) (v0 : Nat) (v1 : Int32) (v2 : Int32) (v3 : Int32) (v4 : Int32) (v5 : Int32) (v6 : Int32) (v7 : Int32) (w8 : Value) (v9 : Int32) (v10 : Int32) (v11 : Nat) (z0 : Int32) : go gd_P0 d 95 105 [.ref v0, .int v1, .int v2, .int v3, .int v4, .int v5, .int v6, .int v7, w8, .int v9, .int v10, .ref v11] [.int z0] h =
    if gT h v11 = 4 then gc gd_P0 d 95 111 114 [.ref v0, .int v1, .int v2, .int v3, .int v4, .int v5, .int v6, .int v7, .int z0, .int v9, .int v10, .ref v11] [] (run gd_P0 d 155 [.ref v11, .int v6] h) else none :=
  (x95_105 ..).trans ((x95_107 ..).trans ((x95_109 ..).trans ((x95_111 ..).trans ((gs_if ..).trans ((ia9 (by simp)).trans (ic9 rfl rfl))))))
theorem s95_114 (d : Nat) (h : gd_H) (v0 : Nat) (v1 : Int32) (v2 : Int32) (v3 : Int32) (v4 : Int32) (v5 : Int32) (v6 : Int32) (v7 : Int32) (v8 : Int32) (v9 : Int32) (v10 : Int32) (w11 : Value) (z0 : Int32) : go gd_P0 d 95 114 [.ref v0, .int v1, .int v2, .int v3, .int v4, .int v5, .int v6, .int v7, .int v8, .int v9, .int v10, w11] [.int z0] h =
    if z0 ≤ 0 then go gd_P0 d 95 120 [.ref v0, .int v1, .int v2, .int v3, .int v4, .int v5, .int v6, .int v7, .int v8, .int v9, .int v10, .null] [] h else go gd_P0 d 95 120 [.ref v0, .int v1, .int v2, .int v3, .int v4, .int v5, .int v6, .int v7, .int v8, .int (v9 + 1), .int v10, .null] [] h :=
  (x95_114 ..).trans ((gs_nif ..).trans (ic9 (rfl) ((x95_117 ..))))
theorem s95_120 (d : Nat) (h : gd_H) (v0 : Nat) (v1 : Int32) (v2 : Int32) (v3 : Int32) (v4 : Int32) (v5 : Int32) (v6 : Int32) (v7 : Int32) (v8 : Int32) (v9 : Int32) (v10 : Int32) (w11 : Value) : go gd_P0 d 95 120 [.ref v0, .int v1, .int v2, .int v3, .int v4, .int v5, .int v6, .int v7, .int v8, .int v9, .int v10, w11] [] h =
    go gd_P0 d 95 51 [.ref v0, .int v1, .int v2, .int v3, .int v4, .int v5, .int v6, .int v7, .int v8, .int v9, .int (v10 + 1), .null] [] h :=
  (x95_120 ..).trans ((x95_123 ..))
theorem s95_149 (d : Nat) (h : gd_H) (w0 : Value) (w1 : Value) (w2 : Value) (w3 : Value) (w4 : Value) (w5 : Value) (w6 : Value) (w7 : Value) (w8 : Value) (w9 : Value) (w10 : Value) (w11 : Value) (z0 : Int32) : go gd_P0 d 95 149 [w0, w1, w2, w3, w4, w5, w6, w7, w8, w9, w10, w11] [.int z0] h =
    some (.inl (some (.int z0)), h) :=
  (x95_149 ..)
theorem r95 (d : Nat) (h : gd_H) (v0 : Nat) (v1 : Int32) (v2 : Int32) (v3 : Int32) (v4 : Int32) (v5 : Int32) (v6 : Int32) : run gd_P0 (d + 1) 95 [.ref v0, .int v1, .int v2, .int v3, .int v4, .int v5, .int v6] h = go gd_P0 d 95 0 [.ref v0, .int v1, .int v2, .int v3, .int v4, .int v5, .int v6, .null, .null, .null, .null, .null] [] h := run_succ gd_P0 d 95 [.ref v0, .int v1, .int v2, .int v3, .int v4, .int v5, .int v6] h (Nat.le_of_ble_eq_true rfl)
